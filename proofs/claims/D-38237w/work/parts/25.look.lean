/-! ===== looks and cycles ===== -/
set_option maxRecDepth 100000
/-- the room of a list that grew from nothing -/
def capOf : Nat → Nat
  | 0 => 0
  | n + 1 => ncp n (capOf n)
def payC : Nat → Nat
  | 0 => 0
  | n + 1 => payC n + gcC n (capOf n)
def payS : Nat → Nat
  | 0 => 0
  | n + 1 => payS n + gcS n (capOf n)
theorem payC_le {n m : Nat} (h : n ≤ m) : payC n ≤ payC m := by
  induction m with
  | zero => rw [show n = 0 by omega]; exact Nat.le_refl _
  | succ m ih =>
    by_cases e : n = m + 1
    · rw [e]; exact Nat.le_refl _
    · exact Nat.le_trans (ih (by omega)) (Nat.le_add_right _ _)
theorem payS_le {n m : Nat} (h : n ≤ m) : payS n ≤ payS m := by
  induction m with
  | zero => rw [show n = 0 by omega]; exact Nat.le_refl _
  | succ m ih =>
    by_cases e : n = m + 1
    · rw [e]; exact Nat.le_refl _
    · exact Nat.le_trans (ih (by omega)) (Nat.le_add_right _ _)
/-- a list made anew since h0, after one more was added -/
theorem push_ext {h0 h h' : Hp} {l ar q n cap : Nat} (E : Ext h0 h) (h1 : h0.2 l = none) (h2 : 0 < cap → h0.2 ar = none) (U : (n < cap ∧ q = ar ∧ Upd h h' [l, ar]) ∨ (n = cap ∧ h.2 q = none ∧ Upd h h' [l])) : Ext h0 h' ∧ h0.2 q = none ∧ Upd h h' [l, ar] := by
  rcases U with ⟨e1, e2, e3⟩ | ⟨e1, e2, e3⟩
  · refine ⟨⟨Nat.le_trans E.1 e3.1, fun b d e => e3.2 _ _ (E.2 _ _ e) (fun hb => ?_)⟩, by rw [e2]; exact h2 (by omega), e3⟩
    have hb' : b = l ∨ b = ar := by simpa using hb
    rcases hb' with z | z
    · rw [z, h1] at e; cases e
    · rw [z, h2 (by omega)] at e; cases e
  · refine ⟨⟨Nat.le_trans E.1 e3.1, fun b d e => e3.2 _ _ (E.2 _ _ e) (fun hb => ?_)⟩, ?_, e3.sub (by simp)⟩
    · have hb' : b = l := by simpa using hb
      rw [hb', h1] at e; cases e
    · cases e : h0.2 q with
      | none => rfl
      | some d => rw [E.2 _ _ e] at e2; cases e2
/-! ### looks -/
def isLkA (h : Hp) (o tp R : Nat) (c : Cf) : Prop := h.2 o = some (.inl (10, [jI c.st, jI c.pl, jI (R : Nat), .ref tp])) ∧ h.2 tp = some (aI 0 (2 * R + 1) (shf R c.tp))
def isLk (h : Hp) (o R : Nat) (c : Cf) : Prop := ∃ tp, isLkA h o tp R c
theorem isLk.ext {h h' : Hp} {o R : Nat} {c : Cf} (E : Ext h h') (H : isLk h o R c) : isLk h' o R c := by
  obtain ⟨tp, h1, h2⟩ := H
  exact ⟨tp, E.2 _ _ h1, E.2 _ _ h2⟩
theorem c_lkInit {w : Wd} {h : Hp} {o a t tp R : Nat} {T : Tb} {c : Cf} (hR : R < 1000) (H : isWk h a t tp R c) (hc : CfOk T c) (hn : c.n ≤ R) (ho : h.2 o = some (.inl (10, [jI 0, jI 0, jI 0, .null]))) : Ct w yX11_init (ws_ yX11_init cX11_init 2 none) 2 80 1 (2 * R + 1) [.ref o, .ref a] h (fun v h' => v = none ∧ ∃ tq, h.2 tq = none ∧ isLkA h' o tq R c ∧ Upd h h' [o]) NoX := by
  have H1 := H.1
  have H2 := H.2
  have hoa : a ≠ o := ne_cel H1 ho (ne_cls (by decide))
  have hot : tp ≠ o := ne_cel H2 ho ne_oa
  refine Ct.of (by decide) [some (.ref o), some (.ref a)] rfl (Nat.le_of_ble_eq_true rfl) (fun K C E N0 => ?_)
  refine k_aload_n C dX11_init_0 rfl ?_
  refine k_objinit C rfl q467 q72 qobj dX11_init_1 ⟨(Nat.le_of_ble_eq_true rfl), (Nat.le_of_ble_eq_true rfl)⟩ ?_
  refine k_aload_n C dX11_init_4 rfl ?_
  refine k_aload_n C dX11_init_5 rfl ?_
  refine k_getN C fn_X11_7 dX11_init_6 (by assumption) (by rfl) ?_
  refine k_putF C fg_X11_13 ft_10_0 rfl (fun r hr => by cases hr; rfl) dX11_init_9 (by assumption) (Or.inl rfl) rfl rfl (fun g1 P1 => ?_)
  have o1 := P1.2.1
  have a1 := P1.2.2 _ _ H1 hoa
  refine k_aload_n C dX11_init_12 rfl ?_
  refine k_aload_n C dX11_init_13 rfl ?_
  refine k_getN C fn_X11_16 dX11_init_14 (by assumption) (by rfl) ?_
  refine k_putF C fg_X11_19 ft_10_1 rfl (fun r hr => by cases hr; rfl) dX11_init_17 (by assumption) (Or.inl rfl) rfl rfl (fun g2 P2 => ?_)
  have o2 := P2.2.1
  have a2 := P2.2.2 _ _ a1 hoa
  refine k_aload_n C dX11_init_20 rfl ?_
  refine k_aload_n C dX11_init_21 rfl ?_
  refine k_getN C fn_X11_20 dX11_init_22 (by assumption) (by rfl) ?_
  refine k_putF C fg_X11_23 ft_10_2 rfl (fun r hr => by cases hr; rfl) dX11_init_25 (by assumption) (Or.inl rfl) rfl rfl (fun g3 P3 => ?_)
  have o3 := P3.2.1
  have a3 := P3.2.2 _ _ a2 hoa
  have t3 := P3.2.2 _ _ (P2.2.2 _ _ (P1.2.2 _ _ H2 hot) hot) hot
  refine k_aload_n C dX11_init_28 rfl ?_
  refine k_aload_n C dX11_init_29 rfl ?_
  refine k_getN C fn_X11_24 dX11_init_30 (by assumption) (by rfl) ?_
  refine k_alen C dX11_init_33 (by assumption) (by rfl) ?_
  refine k_newarr (kd := 0) (g := fun j : Nat => jI ((fun _ => 0 : Int → Int) (j : Int))) C q358 rfl rfl (fun _ => rfl) dX11_init_34 (by omega) (by decide) (by omega) (fun q g4 N4 => ?_)
  have o4 := N4.2.2.1.2 _ _ o3
  have a4 := N4.2.2.1.2 _ _ a3
  have t4 := N4.2.2.1.2 _ _ t3
  have hoq : o ≠ q := N4.ne o3
  have haq : a ≠ q := N4.ne a3
  have htq : tp ≠ q := N4.ne t3
  have e : ((2 * R + 1 : Nat) : Int).toNat = 2 * R + 1 := by omega
  rw [e] at N4
  refine k_putF C fg_X11_28 ft_10_3 rfl (fun r hr => by cases hr; rfl) dX11_init_36 (by assumption) (Or.inl rfl) rfl rfl (fun g5 P5 => ?_)
  have o5 := P5.2.1
  have a5 := P5.2.2 _ _ a4 hoa
  have t5 := P5.2.2 _ _ t4 hot
  have q5 := P5.2.2 _ _ N4.2.1 (Ne.symm hoq)
  refine k_aload_n C dX11_init_39 rfl ?_
  refine k_getN C fn_X11_24 dX11_init_40 (by assumption) (by rfl) ?_
  refine k_iconst C dX11_init_43 ?_
  refine k_aload_n C dX11_init_44 rfl ?_
  refine k_get C fg_X11_28 dX11_init_45 (by assumption) (by rfl) ?_
  refine k_iconst C dX11_init_48 ?_
  refine k_aload_n C dX11_init_49 rfl ?_
  refine k_get C fg_X11_28 dX11_init_50 (by assumption) (by rfl) ?_
  refine k_alen C dX11_init_53 (by assumption) (by rfl) ?_
  unfold aI at t5
  refine k_acopy (kd := 0) C rfl q468 dX11_init_54 (Or.inl rfl) t5 q5 (by unfold cOld; simp) (by omega) (fun i hi => Or.inl ⟨rfl, _, rfl⟩) ⟨Nat.le_of_ble_eq_true rfl, Nat.le_of_ble_eq_true rfl⟩ (fun g6 P6 => ?_)
  have eq : cpV (fun j : Nat => jI (shf R c.tp (j : Int))) (fun j : Nat => jI ((fun _ => 0 : Int → Int) (j : Int))) (0 : Int).toNat (0 : Int).toNat ((2 * R + 1 : Nat) : Int).toNat = fun j : Nat => jI (shf R c.tp (j : Int)) := by
    rw [e]
    funext j
    unfold cpV
    by_cases hj : j < 2 * R + 1
    · rw [if_pos (by constructor <;> simp <;> omega)]; simp
    · rw [if_neg (by simp; omega)]
      unfold shf
      dsimp only
      rw [hc.2.2.2 _ (Or.inr _)]
      have := hc.2.1
      omega
  rw [eq] at P6
  have o6 := P6.2.2 _ _ P5.2.1 hoq
  have Q := (P1.trans P2).trans P3
  have hU : Upd h g5 [o] := ((Q.upd).trans (N4.2.2.1.upd [o]) (fun x hx => Or.inl hx)).trans P5.upd (fun x hx => Or.inl hx)
  have hq : h.2 q = none := Q.upd.none N4.1 (by simpa using Ne.symm hoq)
  exact k_vret C E dX11_init_57 (by omega) ⟨rfl, q, hq, ⟨o6, P6.2.1⟩, hU.trans P6.upd (fun x hx => Or.inr (by rw [show x = q by simpa using hx]; exact hq))⟩
theorem c_lkSymbol {w : Wd} {h : Hp} {o R : Nat} {T : Tb} {c : Cf} {i : Int} (hR : R < 1000) (H : isLk h o R c) (hc : CfOk T c) (hn : c.n ≤ R) (hi : -100000 ≤ i ∧ i ≤ 100000) : Ct w yX11_symbol (ws_ yX11_symbol cX11_symbol 2 (some FieldType.int)) 0 0 0 0 [.ref o, jI i] h (fun v h' => v = some (jI (c.tp i)) ∧ h' = h) NoX := by
  obtain ⟨tp, H1, H2⟩ := H
  obtain ⟨-, ⟨h3, h4, h5, h6, h7, h8⟩, h9, h10⟩ := hc
  refine Ct.of (by decide) [some (.ref o), some (jI i)] rfl (Nat.le_of_ble_eq_true rfl) (fun K C E N0 => ?_)
  refine k_iload_n C dX11_symbol_0 rfl ?_
  refine k_aload_n C dX11_symbol_1 rfl ?_
  refine k_get C fg_X11_23 dX11_symbol_2 (by assumption) (by rfl) ?_
  refine k_ineg C dX11_symbol_5 ?_
  refine k_icmp_lt C dX11_symbol_6 (tgt := 17) (by decide) (by omega) (fun h1 => ?_) (fun h2 => ?_)
  · refine k_iconst C dX11_symbol_17 ?_
    refine k_goto C dX11_symbol_18 (tgt := 32) (by decide) ?_
    rw [show (0 : Int) = c.tp i from (h10 i (by omega)).symm]
    exact k_iret C E dX11_symbol_32 (by omega) ⟨rfl, rfl⟩
  · refine k_iload_n C dX11_symbol_9 rfl ?_
    refine k_aload_n C dX11_symbol_10 rfl ?_
    refine k_get C fg_X11_23 dX11_symbol_11 (by assumption) (by rfl) ?_
    refine k_icmp_le C dX11_symbol_14 (tgt := 21) (by decide) (by omega) (fun g1 => ?_) (fun g2 => ?_)
    · refine k_aload_n C dX11_symbol_21 rfl ?_
      refine k_get C fg_X11_28 dX11_symbol_22 (by assumption) (by rfl) ?_
      refine k_aload_n C dX11_symbol_25 rfl ?_
      refine k_get C fg_X11_23 dX11_symbol_26 (by assumption) (by rfl) ?_
      refine k_iload_n C dX11_symbol_29 rfl ?_
      refine k_iadd C dX11_symbol_30 ?_
      refine k_iald C dX11_symbol_31 (by assumption) (by rfl) (by omega) ?_
      rw [show shf R c.tp (R + i) = c.tp i by unfold shf; rw [show (R : Int) + i - R = i by omega]]
      exact k_iret C E dX11_symbol_32 (by omega) ⟨rfl, rfl⟩
    · refine k_iconst C dX11_symbol_17 ?_
      refine k_goto C dX11_symbol_18 (tgt := 32) (by decide) ?_
      rw [show (0 : Int) = c.tp i from (h10 i (by omega)).symm]
      exact k_iret C E dX11_symbol_32 (by omega) ⟨rfl, rfl⟩
/-- d is c again, some places away, as far as lo and hi go -/
def againP (c d : Cf) (lo hi : Int) : Prop := c.st = d.st ∧ ∀ i : Int, (0 < d.pl - c.pl → lo ≤ i) → (d.pl - c.pl < 0 → i ≤ hi) → c.tp i = d.tp (i + (d.pl - c.pl))
theorem c_comesAgain {w : Wd} {h : Hp} {o p R : Nat} {T : Tb} {c d : Cf} {lo hi : Int} (hT : TbOk T) (hR : R < 1000) (H : isLk h o R c) (G : isLk h p R d) (hc : CfOk T c) (hd : CfOk T d) (hn : c.n ≤ R) (hm : d.n ≤ R) (hlo : -(R : Int) ≤ lo ∧ lo ≤ R ∧ -(R : Int) ≤ hi ∧ hi ≤ R) : Ct w yX11_comesAgain (ws_ yX11_comesAgain cX11_comesAgain 8 (some FieldType.boolean)) 1 21 0 0 [.ref o, .ref p, jI lo, jI hi] h (fun v h' => ∃ b : Bool, v = some (jI (b2i b)) ∧ (b = true ↔ againP c d lo hi) ∧ h' = h) NoX := by
  obtain ⟨tp, H1, H2⟩ := id H
  obtain ⟨tq, G1, G2⟩ := id G
  have hT2 := hT.2.1
  obtain ⟨⟨c1, c2⟩, ⟨c3, c4, c5, c6, c7, c8⟩, c9, c10⟩ := id hc
  obtain ⟨⟨d1, d2⟩, ⟨d3, d4, d5, d6, d7, d8⟩, d9, d10⟩ := id hd
  refine Ct.of (by decide) [some (.ref o), some (.ref p), some (jI lo), some (jI hi), none, none, none, none] rfl (Nat.le_of_ble_eq_true rfl) (fun K C E N0 => ?_)
  have loop : ∀ (d' : Nat) (i a b : Int) (s : Int), s = d.pl - c.pl → i + d' = b + 1 → -(2 * R : Int) ≤ a → a ≤ i → b ≤ 2 * R → (∀ j : Int, (0 < s → lo ≤ j) → (s < 0 → j ≤ hi) → (a ≤ j ∧ j ≤ b) ∨ (j < -(2 * R : Int) ∨ 2 * R < j)) → (∀ j : Int, a ≤ j → j ≤ b → (0 < s → lo ≤ j) ∧ (s < 0 → j ≤ hi)) → (∀ j : Int, a ≤ j → j < i → c.tp j = d.tp (j + s)) → c.st = d.st → Wk w K h 0 0 63 [some (.ref o), some (.ref p), some (jI lo), some (jI hi), some (jI s), some (jI a), some (jI b), some (jI i)] [] := by
    intro d'
    induction d' with
    | zero =>
      intro i a b s hs hi h1 h2 h3 h4 h5 h6 h7
      refine k_iload C dX11_comesAgain_63 rfl ?_
      refine k_iload C dX11_comesAgain_65 rfl ?_
      refine k_icmp_gt C dX11_comesAgain_67 (tgt := 96) (by decide) (by omega) (fun g1 => ?_) (fun g2 => ?_)
      · refine k_iconst C dX11_comesAgain_96 ?_
        refine k_zret (b := true) C E dX11_comesAgain_97 (by omega) ⟨true, rfl, ⟨fun _ => ⟨h7, fun j j1 j2 => ?_⟩, fun _ => rfl⟩, rfl⟩
        rw [← hs] at j1 j2 ⊢
        rcases h4 j j1 j2 with z | z
        · exact h6 j z.1 (by omega)
        · rw [c10 j (by omega), d10 (j + s) (by omega)]
      · omega
    | succ d' ih =>
      intro i a b s hs hi h1 h2 h3 h4 h5 h6 h7
      have b1 := c9 i
      have b2 := d9 (i + s)
      refine k_iload C dX11_comesAgain_63 rfl ?_
      refine k_iload C dX11_comesAgain_65 rfl ?_
      refine k_icmp_gt C dX11_comesAgain_67 (tgt := 96) (by decide) (by omega) (fun g1 => ?_) (fun g2 => ?_)
      · omega
      · refine k_aload_n C dX11_comesAgain_70 rfl ?_
        refine k_iload C dX11_comesAgain_71 rfl ?_
        refine kx_V C rfl mv_X11_35 dX11_comesAgain_73 ((c_lkSymbol hR H hc hn (by omega))) (by assumption) rfl rfl (Nat.le_of_ble_eq_true rfl) ⟨(Nat.le_of_ble_eq_true rfl), (Nat.le_of_ble_eq_true rfl)⟩ (by omega) (fun v kk hp_ => ?_) (fun _ _ hx => hx.elim)
        obtain ⟨rfl, rfl⟩ := hp_
        refine k_aload_n C dX11_comesAgain_76 rfl ?_
        refine k_iload C dX11_comesAgain_77 rfl ?_
        refine k_iload C dX11_comesAgain_79 rfl ?_
        refine k_iadd C dX11_comesAgain_81 ?_
        refine kx_V C rfl mv_X11_35 dX11_comesAgain_82 ((c_lkSymbol hR G hd hm (by omega))) (by assumption) rfl rfl (Nat.le_of_ble_eq_true rfl) ⟨(Nat.le_of_ble_eq_true rfl), (Nat.le_of_ble_eq_true rfl)⟩ (by omega) (fun v kk hp_ => ?_) (fun _ _ hx => hx.elim)
        obtain ⟨rfl, rfl⟩ := hp_
        refine k_icmp_eq C dX11_comesAgain_85 (tgt := 90) (by decide) (by omega) (fun g3 => ?_) (fun g4 => ?_)
        · refine k_iinc C dX11_comesAgain_90 rfl rfl ?_
          refine k_goto C dX11_comesAgain_93 (tgt := 63) (by decide) ?_
          refine ih (i + 1) a b s hs (by omega) h1 (by omega) h3 h4 h5 (fun j j0 j1 => ?_) h7
          by_cases hj : j = i
          · rw [hj]; exact g3
          · exact h6 j j0 (by omega)
        · refine k_iconst C dX11_comesAgain_88 ?_
          refine k_zret (b := false) C E dX11_comesAgain_89 (by omega) ⟨false, rfl, ⟨fun z => (by cases z), fun z => ?_⟩, rfl⟩
          obtain ⟨j1, j2⟩ := h5 i h2 (by omega)
          exact absurd (by rw [hs]; exact z.2 i (by rw [← hs]; exact j1) (by rw [← hs]; exact j2)) g4
  refine k_aload_n C dX11_comesAgain_0 rfl ?_
  refine k_get C fg_X11_13 dX11_comesAgain_1 (by assumption) (by rfl) ?_
  refine k_aload_n C dX11_comesAgain_4 rfl ?_
  refine k_get C fg_X11_13 dX11_comesAgain_5 (by assumption) (by rfl) ?_
  refine k_icmp_eq C dX11_comesAgain_8 (tgt := 13) (by decide) (by omega) (fun h1 => ?_) (fun h2 => ?_)
  · refine k_aload_n C dX11_comesAgain_13 rfl ?_
    refine k_get C fg_X11_19 dX11_comesAgain_14 (by assumption) (by rfl) ?_
    refine k_aload_n C dX11_comesAgain_17 rfl ?_
    refine k_get C fg_X11_19 dX11_comesAgain_18 (by assumption) (by rfl) ?_
    refine k_isub C dX11_comesAgain_21 ?_
    refine k_istore C dX11_comesAgain_22 (Nat.le_of_ble_eq_true rfl) rfl ?_
    refine k_iload C dX11_comesAgain_24 rfl ?_
    refine k_if_le C dX11_comesAgain_26 (tgt := 33) (by decide) (by omega) (fun h3 => ?_) (fun h4 => ?_)
    · refine k_bipush C dX11_comesAgain_33 (by decide) ?_
      refine k_aload_n C dX11_comesAgain_35 rfl ?_
      refine k_get C fg_X11_23 dX11_comesAgain_36 (by assumption) (by rfl) ?_
      refine k_imul C dX11_comesAgain_39 ?_
      refine k_istore C dX11_comesAgain_40 (Nat.le_of_ble_eq_true rfl) rfl ?_
      refine k_iload C dX11_comesAgain_42 rfl ?_
      refine k_if_ge C dX11_comesAgain_44 (tgt := 51) (by decide) (by omega) (fun h5 => ?_) (fun h6 => ?_)
      · refine k_iconst C dX11_comesAgain_51 ?_
        refine k_aload_n C dX11_comesAgain_52 rfl ?_
        refine k_get C fg_X11_23 dX11_comesAgain_53 (by assumption) (by rfl) ?_
        refine k_imul C dX11_comesAgain_56 ?_
        refine k_istore C dX11_comesAgain_57 (Nat.le_of_ble_eq_true rfl) rfl ?_
        refine k_iload C dX11_comesAgain_59 rfl ?_
        refine k_istore C dX11_comesAgain_61 (Nat.le_of_ble_eq_true rfl) rfl ?_
        exact loop (4 * R + 1) _ _ _ _ rfl (by omega) (by omega) (by omega) (by omega) (fun j _ _ => by omega) (fun j j0 j1 => by omega) (fun j j0 j1 => by omega) h1
      · refine k_iload_n C dX11_comesAgain_47 rfl ?_
        refine k_goto C dX11_comesAgain_48 (tgt := 57) (by decide) ?_
        refine k_istore C dX11_comesAgain_57 (Nat.le_of_ble_eq_true rfl) rfl ?_
        refine k_iload C dX11_comesAgain_59 rfl ?_
        refine k_istore C dX11_comesAgain_61 (Nat.le_of_ble_eq_true rfl) rfl ?_
        exact loop (hi + 2 * R + 1).toNat _ _ _ _ rfl (by omega) (by omega) (by omega) (by omega) (fun j j0 j1 => by omega) (fun j j0 j1 => by omega) (fun j j0 j1 => by omega) h1
    · refine k_iload_n C dX11_comesAgain_29 rfl ?_
      refine k_goto C dX11_comesAgain_30 (tgt := 40) (by decide) ?_
      refine k_istore C dX11_comesAgain_40 (Nat.le_of_ble_eq_true rfl) rfl ?_
      refine k_iload C dX11_comesAgain_42 rfl ?_
      refine k_if_ge C dX11_comesAgain_44 (tgt := 51) (by decide) (by omega) (fun h5 => ?_) (fun h6 => ?_)
      · refine k_iconst C dX11_comesAgain_51 ?_
        refine k_aload_n C dX11_comesAgain_52 rfl ?_
        refine k_get C fg_X11_23 dX11_comesAgain_53 (by assumption) (by rfl) ?_
        refine k_imul C dX11_comesAgain_56 ?_
        refine k_istore C dX11_comesAgain_57 (Nat.le_of_ble_eq_true rfl) rfl ?_
        refine k_iload C dX11_comesAgain_59 rfl ?_
        refine k_istore C dX11_comesAgain_61 (Nat.le_of_ble_eq_true rfl) rfl ?_
        exact loop (2 * R - lo + 1).toNat _ _ _ _ rfl (by omega) (by omega) (by omega) (by omega) (fun j j0 j1 => by omega) (fun j j0 j1 => by omega) (fun j j0 j1 => by omega) h1
      · omega
  · refine k_iconst C dX11_comesAgain_11 ?_
    exact k_zret (b := false) C E dX11_comesAgain_12 (by omega) ⟨false, rfl, ⟨fun z => (by cases z), fun z => absurd z.1 h2⟩, rfl⟩
/-- the least and the greatest place from step a on, over k steps -/
def loP (T : Tb) (a : Nat) : Nat → Int
  | 0 => (runN T a c0).pl
  | k + 1 => min (loP T a k) (runN T (a + (k + 1)) c0).pl
def hiP (T : Tb) (a : Nat) : Nat → Int
  | 0 => (runN T a c0).pl
  | k + 1 => max (hiP T a k) (runN T (a + (k + 1)) c0).pl
theorem runN_c0 {T : Tb} (hT : TbOk T) (n : Nat) : CfOk T (runN T n c0) ∧ (runN T n c0).n ≤ n := by
  have := (runN_n (T := T) n c0).1
  have e : c0.n = 0 := rfl
  exact ⟨runN_ok hT n _ c0_ok, by omega⟩
theorem loP_b {T : Tb} (hT : TbOk T) (a : Nat) : ∀ k : Nat, -((a + k : Nat) : Int) ≤ loP T a k ∧ loP T a k ≤ (a + k : Nat)
  | 0 => by
    obtain ⟨⟨-, h2, -⟩, h1⟩ := runN_c0 hT a
    unfold loP
    omega
  | k + 1 => by
    obtain ⟨⟨-, h2, -⟩, h1⟩ := runN_c0 hT (a + (k + 1))
    have := loP_b hT a k
    unfold loP
    omega
theorem hiP_b {T : Tb} (hT : TbOk T) (a : Nat) : ∀ k : Nat, -((a + k : Nat) : Int) ≤ hiP T a k ∧ hiP T a k ≤ (a + k : Nat)
  | 0 => by
    obtain ⟨⟨-, h2, -⟩, h1⟩ := runN_c0 hT a
    unfold hiP
    omega
  | k + 1 => by
    obtain ⟨⟨-, h2, -⟩, h1⟩ := runN_c0 hT (a + (k + 1))
    have := hiP_b hT a k
    unfold hiP
    omega
/-- a cycle: all steps are there, and the last is the first again -/
def cycP (T : Tb) (a b : Nat) : Prop := (runN T (a + b) c0).n = a + b ∧ againP (runN T a c0) (runN T (a + b) c0) (loP T a b) (hiP T a b)
theorem runN_snoc {T : Tb} {c : Cf} {r : Ru} {n : Nat} (h : nxt T (runN T n c) = some r) : runN T (n + 1) c = adv (runN T n c) r := by
  rw [runN_add n 1, runN_go h]; rfl
theorem c_isCycle2 {w : Wd} {h : Hp} {t lst ar a b : Nat} {T : Tb} (G : isTb w h t lst ar T) (hT : TbOk T) (hab : a + b < 1000) : Ct w yX1_isCycle_2 (ws_ yX1_isCycle_2 cX1_isCycle_2 8 (some FieldType.boolean)) 7 148 6 (16 + 3 * (2 * (a + b) + 1)) [.ref t, jI (a : Nat), jI (b : Nat)] h (fun v h' => ∃ x : Bool, v = some (jI (b2i x)) ∧ (x = true ↔ cycP T a b) ∧ Ext h h') NoX := by
  have r0 := runN_c0 hT a
  refine Ct.of (by decide) [some (.ref t), some (jI (a : Nat)), some (jI (b : Nat)), none, none, none, none, none] rfl (Nat.le_of_ble_eq_true rfl) (fun K C E N0 => ?_)
  refine k_new C nw_X1_3 dX1_isCycle_2_0 (by omega) (fun q h1 N1 => ?_)
  have q1 := N1.2.1
  refine k_dup C dX1_isCycle_2_3 rfl ?_
  refine k_aload_n C dX1_isCycle_2_4 rfl ?_
  refine k_iload_n C dX1_isCycle_2_5 rfl ?_
  refine k_iload_n C dX1_isCycle_2_6 rfl ?_
  refine k_iadd C dX1_isCycle_2_7 ?_
  rw [show (a : Int) + b = ((a + b : Nat) : Int) by omega]
  refine kx_I C rfl mi_X1_5 dX1_isCycle_2_8 ((c_wkInit (R := a + b) hab q1)) rfl rfl (Nat.le_of_ble_eq_true rfl) ⟨(Nat.le_of_ble_eq_true rfl), (Nat.le_of_ble_eq_true rfl)⟩ (by omega) (fun v h2 hp_ => ?_) (fun _ _ hx => hx.elim)
  obtain ⟨rfl, tp, t2, W2, U2⟩ := hp_
  have E2 : Ext h h2 := ⟨Nat.le_trans N1.2.2.1.1 U2.1, fun x d e => U2.2 _ _ (N1.2.2.1.2 _ _ e) (by simpa using N1.ne e)⟩
  have tp0 : h.2 tp = none := by
    cases e : h.2 tp with
    | none => rfl
    | some d => rw [N1.2.2.1.2 _ _ e] at t2; cases t2
  have W21 := W2.1
  refine k_iload_n C dX1_isCycle_2_11 rfl ?_
  refine kx_V C rfl mv_X1_9 dX1_isCycle_2_12 ((c_walk (m := a) hab W2 (G.ext E2) hT c0_ok (by show 0 + a ≤ a + b; omega))) (by assumption) rfl rfl (Nat.le_of_ble_eq_true rfl) ⟨(Nat.le_of_ble_eq_true rfl), (Nat.le_of_ble_eq_true rfl)⟩ (by omega) (fun v h3 hp_ => ?_) (fun _ _ hx => hx.elim)
  obtain ⟨rfl, U3, W3⟩ := hp_
  have E3 : Ext h h3 := ⟨Nat.le_trans E2.1 U3.1, fun x d e => U3.2 _ _ (E2.2 _ _ e) (fun hx => by
    have hx' : x = q ∨ x = tp := by simpa using hx
    rcases hx' with z | z
    · rw [z, N1.1] at e; cases e
    · rw [z, tp0] at e; cases e)⟩
  have W31 := W3.1
  refine k_astore_n C dX1_isCycle_2_15 (Nat.le_of_ble_eq_true rfl) rfl ?_
  refine k_new C nw_X1_13 dX1_isCycle_2_16 (by omega) (fun o h4 N4 => ?_)
  have o4 := N4.2.1
  have W4 := W3.ext N4.2.2.1
  refine k_dup C dX1_isCycle_2_19 rfl ?_
  refine k_aload_n C dX1_isCycle_2_20 rfl ?_
  refine kx_I C rfl mi_X1_15 dX1_isCycle_2_21 ((c_lkInit hab W4 r0.1 (by omega) o4)) rfl rfl (Nat.le_of_ble_eq_true rfl) ⟨(Nat.le_of_ble_eq_true rfl), (Nat.le_of_ble_eq_true rfl)⟩ (by omega) (fun v h5 hp_ => ?_) (fun _ _ hx => hx.elim)
  obtain ⟨rfl, tq, tq0, ⟨L51, L52⟩, U5⟩ := hp_
  have oq : o ≠ q := Ne.symm (N4.ne W3.1)
  have ot : o ≠ tp := Ne.symm (N4.ne W3.2)
  have W5 := W4.upd U5 (by simpa using Ne.symm oq) (by simpa using Ne.symm ot)
  have W51 := W5.1
  have E5 : Ext h3 h5 := ⟨Nat.le_trans N4.2.2.1.1 U5.1, fun x d e => U5.2 _ _ (N4.2.2.1.2 _ _ e) (by simpa using N4.ne e)⟩
  refine k_astore C dX1_isCycle_2_24 (Nat.le_of_ble_eq_true rfl) rfl ?_
  refine k_aload_n C dX1_isCycle_2_26 rfl ?_
  refine k_getN C fn_X1_18 dX1_isCycle_2_27 (by assumption) (by rfl) ?_
  refine k_istore C dX1_isCycle_2_30 (Nat.le_of_ble_eq_true rfl) rfl ?_
  refine k_aload_n C dX1_isCycle_2_32 rfl ?_
  refine k_getN C fn_X1_18 dX1_isCycle_2_33 (by assumption) (by rfl) ?_
  refine k_istore C dX1_isCycle_2_36 (Nat.le_of_ble_eq_true rfl) rfl ?_
  refine k_iconst C dX1_isCycle_2_38 ?_
  refine k_istore C dX1_isCycle_2_39 (Nat.le_of_ble_eq_true rfl) rfl ?_
  have tqq : tq ≠ tp := fun z => by rw [z, W4.2] at tq0; cases tq0
  have loop : ∀ (d i : Nat) (hh : Hp), i + d = b → isWk hh q t tp (a + b) (runN T (a + i) c0) → (hh.2 o = h5.2 o ∧ hh.2 tq = h5.2 tq) → Ext h hh → Wk w K hh 4 (12 + 2 * (2 * (a + b) + 1)) 41 [some (.ref t), some (jI (a : Nat)), some (jI (b : Nat)), some (.ref q), some (.ref o), some (jI (loP T a i)), some (jI (hiP T a i)), some (jI (i : Nat))] [] := by
    intro d
    induction d with
    | zero =>
      intro i hh hi h1 h2 h3
      have hi' : i = b := by omega
      subst hi'
      have r1 := runN_c0 hT (a + i)
      have h11 := h1.1
      have lb := loP_b hT a i
      have ub := hiP_b hT a i
      refine k_iload C dX1_isCycle_2_41 rfl ?_
      refine k_iload_n C dX1_isCycle_2_43 rfl ?_
      refine k_icmp_ge C dX1_isCycle_2_44 (tgt := 86) (by decide) (by omega) (fun g1 => ?_) (fun g2 => ?_)
      · refine k_aload_n C dX1_isCycle_2_86 rfl ?_
        refine k_getN C fn_X1_39 dX1_isCycle_2_87 (by assumption) (by rfl) ?_
        refine k_iload_n C dX1_isCycle_2_90 rfl ?_
        refine k_iload_n C dX1_isCycle_2_91 rfl ?_
        refine k_iadd C dX1_isCycle_2_92 ?_
        refine k_icmp_ne C dX1_isCycle_2_93 (tgt := 120) (by decide) (by omega) (fun g3 => ?_) (fun g4 => ?_)
        · refine k_iconst C dX1_isCycle_2_120 ?_
          exact k_zret (b := false) C E dX1_isCycle_2_121 (by omega) ⟨false, rfl, ⟨fun z => (by cases z), fun z => (g3 (by have z1 := z.1; omega)).elim⟩, h3⟩
        · refine k_aload C dX1_isCycle_2_96 rfl ?_
          refine k_new C nw_X1_13 dX1_isCycle_2_98 (by omega) (fun p h6 N6 => ?_)
          have p6 := N6.2.1
          have W6 := h1.ext N6.2.2.1
          have L6 : isLk h6 o (a + i) (runN T a c0) := ⟨tq, N6.2.2.1.2 _ _ (h2.1.trans L51), N6.2.2.1.2 _ _ (h2.2.trans L52)⟩
          refine k_dup C dX1_isCycle_2_101 rfl ?_
          refine k_aload_n C dX1_isCycle_2_102 rfl ?_
          refine kx_I C rfl mi_X1_15 dX1_isCycle_2_103 ((c_lkInit hab W6 r1.1 r1.2 p6)) rfl rfl (Nat.le_of_ble_eq_true rfl) ⟨(Nat.le_of_ble_eq_true rfl), (Nat.le_of_ble_eq_true rfl)⟩ (by omega) (fun v h7 hp_ => ?_) (fun _ _ hx => hx.elim)
          obtain ⟨rfl, tr, tr0, L7, U7⟩ := hp_
          have L67 : isLk h7 o (a + i) (runN T a c0) := ⟨tq, U7.2 _ _ (N6.2.2.1.2 _ _ (h2.1.trans L51)) (by simpa using N6.ne (h2.1.trans L51)), U7.2 _ _ (N6.2.2.1.2 _ _ (h2.2.trans L52)) (by simpa using N6.ne (h2.2.trans L52))⟩
          have oc := U7.2 _ _ (N6.2.2.1.2 _ _ (h2.1.trans L51)) (by simpa using N6.ne (h2.1.trans L51))
          refine k_iload C dX1_isCycle_2_106 rfl ?_
          refine k_iload C dX1_isCycle_2_108 rfl ?_
          refine kx_V C rfl mv_X1_42 dX1_isCycle_2_110 ((c_comesAgain hT hab L67 ⟨tr, L7⟩ r0.1 r1.1 (by omega) (by omega) (by omega))) (by assumption) rfl rfl (Nat.le_of_ble_eq_true rfl) ⟨(Nat.le_of_ble_eq_true rfl), (Nat.le_of_ble_eq_true rfl)⟩ (by omega) (fun v h8 hp_ => ?_) (fun _ _ hx => hx.elim)
          obtain ⟨x, rfl, hx, rfl⟩ := hp_
          have E8 : Ext h h8 := ⟨Nat.le_trans h3.1 (Nat.le_trans N6.2.2.1.1 U7.1), fun x d e => U7.2 _ _ (N6.2.2.1.2 _ _ (h3.2 _ _ e)) (by simpa using N6.ne (h3.2 _ _ e))⟩
          refine k_ifeq_b C dX1_isCycle_2_113 (tgt := 120) (by decide) (fun g5 => ?_) (fun g6 => ?_)
          · refine k_iconst C dX1_isCycle_2_120 ?_
            exact k_zret (b := false) C E dX1_isCycle_2_121 (by omega) ⟨false, rfl, ⟨fun z => (by cases z), fun z => (by rw [hx.mpr z.2] at g5; cases g5)⟩, E8⟩
          · refine k_iconst C dX1_isCycle_2_116 ?_
            refine k_goto C dX1_isCycle_2_117 (tgt := 121) (by decide) ?_
            exact k_zret (b := true) C E dX1_isCycle_2_121 (by omega) ⟨true, rfl, ⟨fun _ => ⟨by omega, hx.mp g6⟩, fun _ => rfl⟩, E8⟩
      · omega
    | succ d ih =>
      intro i hh hi h1 h2 h3
      have r1 := runN_c0 hT (a + i)
      have h11 := h1.1
      have G' := G.ext h3
      have lb := loP_b hT a i
      have ub := hiP_b hT a i
      obtain ⟨-, ⟨b1, b2, b3, b4, b5, b6⟩, -⟩ := id r1.1
      refine k_iload C dX1_isCycle_2_41 rfl ?_
      refine k_iload_n C dX1_isCycle_2_43 rfl ?_
      refine k_icmp_ge C dX1_isCycle_2_44 (tgt := 86) (by decide) (by omega) (fun g1 => ?_) (fun g2 => ?_)
      · omega
      · refine k_aload_n C dX1_isCycle_2_47 rfl ?_
        refine kx_V C rfl mv_X1_22 dX1_isCycle_2_48 ((c_goesOn hab h1 G' hT r1.1 (by omega))) (by assumption) rfl rfl (Nat.le_of_ble_eq_true rfl) ⟨(Nat.le_of_ble_eq_true rfl), (Nat.le_of_ble_eq_true rfl)⟩ (by omega) (fun v h6 hp_ => ?_) (fun _ _ hx => hx.elim)
        obtain ⟨rfl, rfl⟩ := hp_
        refine k_ifeq_b C dX1_isCycle_2_51 (tgt := 86) (by decide) (fun g3 => ?_) (fun g4 => ?_)
        · have g3' : nxt T (runN T (a + i) c0) = none := by simpa using g3
          have ee : runN T (a + b) c0 = runN T (a + i) c0 := by rw [show a + b = a + i + (b - i) by omega, runN_add, runN_stop g3']
          refine k_aload_n C dX1_isCycle_2_86 rfl ?_
          refine k_getN C fn_X1_39 dX1_isCycle_2_87 (by assumption) (by rfl) ?_
          refine k_iload_n C dX1_isCycle_2_90 rfl ?_
          refine k_iload_n C dX1_isCycle_2_91 rfl ?_
          refine k_iadd C dX1_isCycle_2_92 ?_
          refine k_icmp_ne C dX1_isCycle_2_93 (tgt := 120) (by decide) (by omega) (fun g5 => ?_) (fun g6 => ?_)
          · refine k_iconst C dX1_isCycle_2_120 ?_
            exact k_zret (b := false) C E dX1_isCycle_2_121 (by omega) ⟨false, rfl, ⟨fun z => (by cases z), fun z => (by have z1 := z.1; rw [ee] at z1; omega)⟩, h3⟩
          · omega
        · obtain ⟨r, hr⟩ := Option.isSome_iff_exists.mp g4
          have ea := runN_snoc hr
          have r2 := runN_c0 hT (a + (i + 1))
          rw [show a + (i + 1) = a + i + 1 by omega] at r2
          refine k_aload_n C dX1_isCycle_2_54 rfl ?_
          refine kx_V C rfl mv_X1_26 dX1_isCycle_2_55 ((c_step hab h1 G' hT r1.1 (by omega) hr)) (by assumption) rfl rfl (Nat.le_of_ble_eq_true rfl) ⟨(Nat.le_of_ble_eq_true rfl), (Nat.le_of_ble_eq_true rfl)⟩ (by omega) (fun v h7 hp_ => ?_) (fun _ _ hx => hx.elim)
          obtain ⟨rfl, U7, W7⟩ := hp_
          rw [← ea] at W7
          have W71 := W7.1
          obtain ⟨-, ⟨b1', b2', b3', b4', b5', b6'⟩, -⟩ := id r2.1
          have e1 : min (loP T a i) (runN T (a + i + 1) c0).pl = loP T a (i + 1) := rfl
          have e2 : max (hiP T a i) (runN T (a + i + 1) c0).pl = hiP T a (i + 1) := rfl
          refine k_iload C dX1_isCycle_2_58 rfl ?_
          refine k_aload_n C dX1_isCycle_2_60 rfl ?_
          refine k_getN C fn_X1_18 dX1_isCycle_2_61 (by assumption) (by rfl) ?_
          refine k_min C rfl q562 dX1_isCycle_2_64 (by omega) ⟨(Nat.le_of_ble_eq_true rfl), (Nat.le_of_ble_eq_true rfl)⟩ (by omega) ?_
          refine k_istore C dX1_isCycle_2_67 (Nat.le_of_ble_eq_true rfl) rfl ?_
          refine k_iload C dX1_isCycle_2_69 rfl ?_
          refine k_aload_n C dX1_isCycle_2_71 rfl ?_
          refine k_getN C fn_X1_18 dX1_isCycle_2_72 (by assumption) (by rfl) ?_
          refine k_max C rfl q439 dX1_isCycle_2_75 (by omega) ⟨(Nat.le_of_ble_eq_true rfl), (Nat.le_of_ble_eq_true rfl)⟩ (by omega) ?_
          refine k_istore C dX1_isCycle_2_78 (Nat.le_of_ble_eq_true rfl) rfl ?_
          refine k_iinc C dX1_isCycle_2_80 rfl rfl ?_
          refine k_goto C dX1_isCycle_2_83 (tgt := 41) (by decide) ?_
          rw [e1, e2]
          refine ih (i + 1) h7 (by omega) W7 ⟨?_, ?_⟩ ?_
          · rw [← h2.1, h2.1.trans L51]; exact U7.2 _ _ (h2.1.trans L51) (by simp [oq, ot])
          · rw [← h2.2, h2.2.trans L52]; exact U7.2 _ _ (h2.2.trans L52) (by simp [tqq, ne_cel (h2.2.trans L52) h1.1 ne_oa])
          · refine ⟨Nat.le_trans h3.1 U7.1, fun x d e => U7.2 _ _ (h3.2 _ _ e) (fun hx => ?_)⟩
            have hx' : x = q ∨ x = tp := by simpa using hx
            rcases hx' with z | z
            · rw [z, N1.1] at e; cases e
            · rw [z, tp0] at e; cases e
  exact (loop b 0 h5 (by omega) W5 ⟨rfl, rfl⟩ (E3.trans E5)).widen (by omega) (by omega)
