/-! ===== the model's runs ===== -/
set_option maxRecDepth 100000
/-- a run at a, over the machine at md; its tape at tp, R steps meant -/
def isRn (h : Hp) (a md tp R : Nat) (c : Cf) : Prop := h.2 a = some (.inl (8, [.ref md, .ref tp, jI ((R : Nat) + 1), jI c.st, jI c.pl, jI (c.n : Nat), jI c.le, jI c.gr])) ∧ h.2 tp = some (aI 0 (2 * R + 3) (shf (R + 1) c.tp))
theorem isRn.ext {h h' : Hp} {a md tp R : Nat} {c : Cf} (E : Ext h h') (H : isRn h a md tp R c) : isRn h' a md tp R c := ⟨E.2 _ _ H.1, E.2 _ _ H.2⟩
theorem isC.keep {h h' : Hp} {p : Option Nat} {r : Option Ru} {S : List Nat} (U : Upd h h' S) (hS : ∀ q ∈ S, ∀ n f, n = 3 → h.2 q ≠ some (aI 0 n f)) (H : isC h p r) : isC h' p r := by
  cases r with
  | none => exact H
  | some r =>
    obtain ⟨a, g, h1, h2, h3⟩ := H
    exact ⟨a, g, h1, U.2 _ _ h2 (fun hq => hS a hq _ _ rfl h2), h3⟩
/-- a run's object and tape don't lie in a machine -/
theorem isMd.run {h h' : Hp} {a cs : Nat} {T : Tb} {kv av bv : Int} {b md tp R : Nat} {c : Cf} (hR : 1 ≤ R) (H : isMd h a cs T kv av bv) (W : isRn h b md tp R c) (U : Upd h h' [b, tp]) : isMd h' a cs T kv av bv := by
  obtain ⟨h1, f, h2, h3⟩ := H
  refine ⟨U.2 _ _ h1 (by simp [ne_cel h1 W.1 (ne_cls (by decide)), ne_cel h1 W.2 ne_ao]), f, U.2 _ _ h2 (by simp [ne_cel h2 W.1 ne_oa, ne_cel h2 W.2 (ne_knd (by decide))]), fun k k0 k1 => (h3 k k0 k1).keep U (fun q hq n g hn e => ?_)⟩
  have hq' : q = b ∨ q = tp := by simpa using hq
  rcases hq' with z | z
  · rw [z, W.1] at e; cases e
  · rw [z, W.2] at e
    have e2 := (Prod.mk.inj (Prod.mk.inj (Sum.inr.inj (Option.some.inj e))).2).1
    omega
theorem c_rnInit {w : Wd} {h : Hp} {a md R : Nat} (hR : R < 1000) (ha : h.2 a = some (.inl (8, [.null, .null, jI 0, jI 0, jI 0, jI 0, jI 0, jI 0]))) : Ct w yX9_init (ws_ yX9_init cX9_init 3 none) 1 40 1 (2 * R + 3) [.ref a, .ref md, jI (R : Nat)] h (fun v h' => v = none ∧ ∃ tp, h.2 tp = none ∧ isRn h' a md tp R c0 ∧ Upd h h' [a]) NoX := by
  refine Ct.of (by decide) [some (.ref a), some (.ref md), some (jI (R : Nat))] rfl (Nat.le_of_ble_eq_true rfl) (fun K C E N0 => ?_)
  refine k_aload_n C dX9_init_0 rfl ?_
  refine k_objinit C rfl q1357 q72 qobj dX9_init_1 ⟨(Nat.le_of_ble_eq_true rfl), (Nat.le_of_ble_eq_true rfl)⟩ ?_
  refine k_aload_n C dX9_init_4 rfl ?_
  refine k_aload_n C dX9_init_5 rfl ?_
  refine k_putF C fg_X9_9 ft_8_0 rfl (fun r hr => by cases hr; rfl) dX9_init_6 (by assumption) (Or.inl rfl) rfl rfl (fun h1 P1 => ?_)
  have ha1 := P1.2.1
  refine k_aload_n C dX9_init_9 rfl ?_
  refine k_iload_n C dX9_init_10 rfl ?_
  refine k_iconst C dX9_init_11 ?_
  refine k_iadd C dX9_init_12 ?_
  refine k_putF C fg_X9_15 ft_8_2 rfl (fun r hr => by cases hr; rfl) dX9_init_13 (by assumption) (Or.inl rfl) rfl rfl (fun h2 P2 => ?_)
  have ha2 := P2.2.1
  refine k_aload_n C dX9_init_16 rfl ?_
  refine k_iconst C dX9_init_17 ?_
  refine k_iload_n C dX9_init_18 rfl ?_
  refine k_imul C dX9_init_19 ?_
  refine k_iconst C dX9_init_20 ?_
  refine k_iadd C dX9_init_21 ?_
  refine k_newarr (kd := 0) (g := fun j : Nat => jI ((fun _ => 0 : Int → Int) (j : Int))) C q358 rfl rfl (fun _ => rfl) dX9_init_22 (by omega) (by decide) (by omega) (fun tp h3 N3 => ?_)
  have ha3 := N3.2.2.1.2 _ _ ha2
  have hn := N3.ne ha2
  refine k_putF C fg_X9_19 ft_8_1 rfl (fun r hr => by cases hr; rfl) dX9_init_24 (by assumption) (Or.inl rfl) rfl rfl (fun h4 P4 => ?_)
  have e : (2 * (R : Int) + 3).toNat = 2 * R + 3 := by omega
  rw [e] at N3
  have hU : Upd h h2 [a] := (P1.trans P2).upd
  have hU4 : Upd h h4 [a] := (hU.trans (N3.2.2.1.upd [a]) (fun x hx => Or.inl hx)).trans P4.upd (fun x hx => Or.inl hx)
  exact k_vret C E dX9_init_27 ⟨by omega, by omega⟩ ⟨rfl, tp, hU.none N3.1 (by simpa using Ne.symm hn), ⟨P4.2.1, P4.2.2 _ _ N3.2.1 (Ne.symm hn)⟩, hU4⟩
theorem c_rnStopped {w : Wd} {h : Hp} {a md tp R cs : Nat} {T : Tb} {c : Cf} {kv av bv : Int} (H : isRn h a md tp R c) (G : isMd h md cs T kv av bv) (hT : TbOk T) (hc : CfOk T c) : Ct w yX9_isStopped (ws_ yX9_isStopped cX9_isStopped 1 (some FieldType.boolean)) 0 0 0 0 [.ref a] h (fun v h' => v = some (jI (b2i (stopB T c))) ∧ h' = h) NoX := by
  obtain ⟨H1, H2⟩ := H
  have G1 := G.1
  obtain ⟨h3, h4⟩ := hc.1
  have := hT.2.1
  unfold stopB
  refine Ct.of (by decide) [some (.ref a)] rfl (Nat.le_of_ble_eq_true rfl) (fun K C E N0 => ?_)
  refine k_aload_n C dX9_isStopped_0 rfl ?_
  refine k_get C fg_X9_23 dX9_isStopped_1 (by assumption) (by rfl) ?_
  refine k_aload_n C dX9_isStopped_4 rfl ?_
  refine k_get C fg_X9_9 dX9_isStopped_5 (by assumption) (by rfl) ?_
  refine k_getN C fn_X9_26 dX9_isStopped_8 (by assumption) (by rfl) ?_
  refine k_icmp_ne C dX9_isStopped_11 (tgt := 18) (by decide) (by omega) (fun h1 => ?_) (fun h2 => ?_)
  · refine k_iconst C dX9_isStopped_18 ?_
    exact k_zret (b := false) C E dX9_isStopped_19 (by omega) ⟨by rw [decide_eq_false h1], rfl⟩
  · refine k_iconst C dX9_isStopped_14 ?_
    refine k_goto C dX9_isStopped_15 (tgt := 19) (by decide) ?_
    exact k_zret (b := true) C E dX9_isStopped_19 (by omega) ⟨by rw [decide_eq_true h2], rfl⟩
theorem c_rnUnder {w : Wd} {h : Hp} {a md tp R : Nat} {T : Tb} {c : Cf} (hR : R < 1000) (H : isRn h a md tp R c) (hc : CfOk T c) (hn : c.n ≤ R + 1) : Ct w yX9_under (ws_ yX9_under cX9_under 1 (some FieldType.int)) 0 0 0 0 [.ref a] h (fun v h' => v = some (jI (c.tp c.pl)) ∧ h' = h) NoX := by
  obtain ⟨H1, H2⟩ := H
  obtain ⟨-, ⟨h3, h4, h5, h6, h7, h8⟩, h9, h10⟩ := hc
  refine Ct.of (by decide) [some (.ref a)] rfl (Nat.le_of_ble_eq_true rfl) (fun K C E N0 => ?_)
  refine k_aload_n C dX9_under_0 rfl ?_
  refine k_get C fg_X9_19 dX9_under_1 (by assumption) (by rfl) ?_
  refine k_aload_n C dX9_under_4 rfl ?_
  refine k_get C fg_X9_15 dX9_under_5 (by assumption) (by rfl) ?_
  refine k_aload_n C dX9_under_8 rfl ?_
  refine k_get C fg_X9_35 dX9_under_9 (by assumption) (by rfl) ?_
  refine k_iadd C dX9_under_12 ?_
  refine k_iald C dX9_under_13 (by assumption) (by rfl) (by omega) ?_
  rw [show shf (R + 1) c.tp ((R : Nat) + 1 + c.pl) = c.tp c.pl by unfold shf; rw [show (R : Int) + 1 + c.pl - ((R + 1 : Nat) : Int) = c.pl by omega]]
  exact k_iret C E dX9_under_14 (by omega) ⟨rfl, rfl⟩
theorem c_rnAt {w : Wd} {h : Hp} {a md tp R : Nat} {T : Tb} {c : Cf} {i : Int} (hR : R < 1000) (H : isRn h a md tp R c) (hc : CfOk T c) (hn : c.n ≤ R + 1) (hi : -100000 ≤ i ∧ i ≤ 100000) : Ct w yX9_at (ws_ yX9_at cX9_at 2 (some FieldType.int)) 1 22 0 0 [.ref a, jI i] h (fun v h' => v = some (jI (c.tp i)) ∧ h' = h) NoX := by
  obtain ⟨H1, H2⟩ := H
  obtain ⟨-, ⟨h3, h4, h5, h6, h7, h8⟩, h9, h10⟩ := hc
  refine Ct.of (by decide) [some (.ref a), some (jI i)] rfl (Nat.le_of_ble_eq_true rfl) (fun K C E N0 => ?_)
  refine k_iload_n C dX9_at_0 rfl ?_
  refine k_aload_n C dX9_at_1 rfl ?_
  refine k_get C fg_X9_15 dX9_at_2 (by assumption) (by rfl) ?_
  refine k_ineg C dX9_at_5 ?_
  refine k_aload_n C dX9_at_6 rfl ?_
  refine k_get C fg_X9_15 dX9_at_7 (by assumption) (by rfl) ?_
  refine kx_SN C rfl msn_X9_31 dX9_at_10 ((c_is (by unfold i32; omega))) rfl rfl (Nat.le_of_ble_eq_true rfl) ⟨(Nat.le_of_ble_eq_true rfl), (Nat.le_of_ble_eq_true rfl)⟩ (by omega) (fun v kk hp_ => ?_) (fun _ _ hx => hx.elim)
  obtain ⟨rfl, rfl⟩ := hp_
  refine k_ifeq_b C dX9_at_13 (tgt := 30) (by decide) (fun g1 => ?_) (fun g2 => ?_)
  · have g1' := of_decide_eq_false g1
    refine k_iconst C dX9_at_30 ?_
    rw [show (0 : Int) = c.tp i from (h10 i (by omega)).symm]
    exact k_iret C E dX9_at_31 (by omega) ⟨rfl, rfl⟩
  · have g2' := of_decide_eq_true g2
    refine k_aload_n C dX9_at_16 rfl ?_
    refine k_get C fg_X9_19 dX9_at_17 (by assumption) (by rfl) ?_
    refine k_aload_n C dX9_at_20 rfl ?_
    refine k_get C fg_X9_15 dX9_at_21 (by assumption) (by rfl) ?_
    refine k_iload_n C dX9_at_24 rfl ?_
    refine k_iadd C dX9_at_25 ?_
    refine k_iald C dX9_at_26 (by assumption) (by rfl) (by omega) ?_
    refine k_goto C dX9_at_27 (tgt := 31) (by decide) ?_
    rw [show shf (R + 1) c.tp ((R : Nat) + 1 + i) = c.tp i by unfold shf; rw [show (R : Int) + 1 + i - ((R + 1 : Nat) : Int) = i by omega]]
    exact k_iret C E dX9_at_31 (by omega) ⟨rfl, rfl⟩
theorem c_rnHung {w : Wd} {h : Hp} {a md tp R cs : Nat} {T : Tb} {c : Cf} {kv av bv : Int} (hR : R < 1000) (H : isRn h a md tp R c) (G : isMd h md cs T kv av bv) (hT : TbOk T) (hc : CfOk T c) (hn : c.n ≤ R + 1) : Ct w yX9_isHung (ws_ yX9_isHung cX9_isHung 1 (some FieldType.boolean)) 1 22 0 0 [.ref a] h (fun v h' => v = some (jI (b2i (hangB T c))) ∧ h' = h) NoX := by
  have H1 := H.1
  have hc0 := hc
  obtain ⟨⟨h3, h4⟩, ⟨h5, h6, h7, h8, h9, h10⟩, h11, h12⟩ := hc
  have h13 := h11 c.pl
  obtain ⟨G1, f, G2, G3⟩ := id G
  refine Ct.of (by decide) [some (.ref a)] rfl (Nat.le_of_ble_eq_true rfl) (fun K C E N0 => ?_)
  refine k_aload_n C dX9_isHung_0 rfl ?_
  refine kx_V C rfl mv_X9_38 dX9_isHung_1 ((c_rnStopped H G hT hc0)) (by assumption) rfl rfl (Nat.le_of_ble_eq_true rfl) ⟨(Nat.le_of_ble_eq_true rfl), (Nat.le_of_ble_eq_true rfl)⟩ (by omega) (fun v h1 hp_ => ?_) (fun _ _ hx => hx.elim)
  obtain ⟨rfl, rfl⟩ := hp_
  unfold stopB
  refine k_ifne_b C dX9_isHung_4 (tgt := 29) (by decide) (fun h1 => ?_) (fun h2 => ?_)
  · refine k_iconst C dX9_isHung_29 ?_
    exact k_zret (b := false) C E dX9_isHung_30 (by omega) ⟨by unfold hangB; rw [h1]; rfl, rfl⟩
  · have hst : c.st ≠ T.1 := by simpa using h2
    have hT2 := hT.2.1
    refine k_aload_n C dX9_isHung_7 rfl ?_
    refine k_get C fg_X9_9 dX9_isHung_8 (by assumption) (by rfl) ?_
    refine k_aload_n C dX9_isHung_11 rfl ?_
    refine k_get C fg_X9_23 dX9_isHung_12 (by assumption) (by rfl) ?_
    refine k_aload_n C dX9_isHung_15 rfl ?_
    refine kx_V C rfl mv_X9_42 dX9_isHung_16 ((c_rnUnder hR H hc0 hn)) (by assumption) rfl rfl (Nat.le_of_ble_eq_true rfl) ⟨(Nat.le_of_ble_eq_true rfl), (Nat.le_of_ble_eq_true rfl)⟩ (by omega) (fun v h1 hp_ => ?_) (fun _ _ hx => hx.elim)
    obtain ⟨rfl, rfl⟩ := hp_
    refine kx_V C rfl mv_X9_46 dX9_isHung_19 ((c_mdCell G1 G2 hT.2.1 (by omega) (by omega))) (by assumption) rfl rfl (Nat.le_of_ble_eq_true rfl) ⟨(Nat.le_of_ble_eq_true rfl), (Nat.le_of_ble_eq_true rfl)⟩ (by omega) (fun v h1 hp_ => ?_) (fun _ _ hx => hx.elim)
    obtain ⟨rfl, rfl⟩ := hp_
    have hcell := G3 (2 * c.st + c.tp c.pl) (by omega) (by omega)
    cases hr : T.2 (2 * c.st + c.tp c.pl) with
    | none =>
      rw [hr] at hcell
      rw [show f (2 * c.st + c.tp c.pl) = none from hcell]
      refine k_ifnonnullN C dX9_isHung_22 ?_
      refine k_iconst C dX9_isHung_25 ?_
      refine k_goto C dX9_isHung_26 (tgt := 30) (by decide) ?_
      exact k_zret (b := true) C E dX9_isHung_30 (by omega) ⟨by unfold hangB; rw [h2, hr]; rfl, rfl⟩
    | some r =>
      rw [hr] at hcell
      obtain ⟨p, g, hf, hp, -⟩ := hcell
      rw [hf]
      refine k_ifnonnull C dX9_isHung_22 (tgt := 29) (by decide) ?_
      refine k_iconst C dX9_isHung_29 ?_
      exact k_zret (b := false) C E dX9_isHung_30 (by omega) ⟨by unfold hangB; rw [hr]; simp, rfl⟩
theorem nxt_b2 {T : Tb} {c : Cf} : (nxt T c).isSome = (!stopB T c && !hangB T c) := nxt_b
/-- a step that there isn't -/
theorem c_rnStepN {w : Wd} {h : Hp} {a md tp R cs : Nat} {T : Tb} {c : Cf} {kv av bv : Int} (hR : R < 1000) (H : isRn h a md tp R c) (G : isMd h md cs T kv av bv) (hT : TbOk T) (hc : CfOk T c) (hn : c.n ≤ R + 1) (hx : nxt T c = none) : Ct w yX9_step (ws_ yX9_step cX9_step 2 (some FieldType.boolean)) 2 42 0 0 [.ref a] h (fun v h' => v = some (jI (b2i false)) ∧ h' = h) NoX := by
  have H1 := H.1
  have e := nxt_b2 (T := T) (c := c)
  rw [hx] at e
  refine Ct.of (by decide) [some (.ref a), none] rfl (Nat.le_of_ble_eq_true rfl) (fun K C E N0 => ?_)
  refine k_aload_n C dX9_step_0 rfl ?_
  refine kx_V C rfl mv_X9_38 dX9_step_1 ((c_rnStopped H G hT hc)) (by assumption) rfl rfl (Nat.le_of_ble_eq_true rfl) ⟨(Nat.le_of_ble_eq_true rfl), (Nat.le_of_ble_eq_true rfl)⟩ (by omega) (fun v h1 hp_ => ?_) (fun _ _ hx => hx.elim)
  obtain ⟨rfl, rfl⟩ := hp_
  refine k_ifne_b C dX9_step_4 (tgt := 14) (by decide) (fun g1 => ?_) (fun g2 => ?_)
  · refine k_iconst C dX9_step_14 ?_
    exact k_zret (b := false) C E dX9_step_15 (by omega) ⟨rfl, rfl⟩
  · refine k_aload_n C dX9_step_7 rfl ?_
    refine kx_V C rfl mv_X9_50 dX9_step_8 ((c_rnHung hR H G hT hc hn)) (by assumption) rfl rfl (Nat.le_of_ble_eq_true rfl) ⟨(Nat.le_of_ble_eq_true rfl), (Nat.le_of_ble_eq_true rfl)⟩ (by omega) (fun v h1 hp_ => ?_) (fun _ _ hx => hx.elim)
    obtain ⟨rfl, rfl⟩ := hp_
    refine k_ifeq_b C dX9_step_11 (tgt := 16) (by decide) (fun g3 => ?_) (fun g4 => ?_)
    · rw [g2, g3] at e; cases e
    · refine k_iconst C dX9_step_14 ?_
      exact k_zret (b := false) C E dX9_step_15 (by omega) ⟨rfl, rfl⟩
theorem c_rnStepS {w : Wd} {h : Hp} {a md tp R cs : Nat} {T : Tb} {c : Cf} {r : Ru} {kv av bv : Int} (hR : R < 1000) (H : isRn h a md tp R c) (G : isMd h md cs T kv av bv) (hT : TbOk T) (hc : CfOk T c) (hn : c.n < R) (hr : nxt T c = some r) : Ct w yX9_step (ws_ yX9_step cX9_step 2 (some FieldType.boolean)) 2 42 0 0 [.ref a] h (fun v h' => v = some (jI (b2i true)) ∧ Upd h h' [a, tp] ∧ isRn h' a md tp R (adv c r)) NoX := by
  have H1 := H.1
  have H2 := H.2
  have e := nxt_b2 (T := T) (c := c)
  rw [hr] at e
  obtain ⟨r1, r2, r3, r4⟩ := hc.rule hT hr
  obtain ⟨hs, hcell⟩ := nxt_some hr
  have hc0 := hc
  obtain ⟨⟨h3, h4⟩, ⟨h5, h6, h7, h8, h9, h10⟩, h11, h12⟩ := hc
  have h13 := h11 c.pl
  have hT2 := hT.2.1
  have hat : tp ≠ a := ne_cel H2 H1 ne_oa
  obtain ⟨G1, f, G2, G3⟩ := id G
  have hcl := G3 (2 * c.st + c.tp c.pl) (by omega) (by omega)
  rw [hcell] at hcl
  obtain ⟨p, g, hf, hp, e0, e1, e2⟩ := hcl
  have hpa : p ≠ a := ne_cel hp H1 ne_oa
  refine Ct.of (by decide) [some (.ref a), none] rfl (Nat.le_of_ble_eq_true rfl) (fun K C E N0 => ?_)
  refine k_aload_n C dX9_step_0 rfl ?_
  refine kx_V C rfl mv_X9_38 dX9_step_1 ((c_rnStopped H G hT hc0)) (by assumption) rfl rfl (Nat.le_of_ble_eq_true rfl) ⟨(Nat.le_of_ble_eq_true rfl), (Nat.le_of_ble_eq_true rfl)⟩ (by omega) (fun v h1 hp_ => ?_) (fun _ _ hx => hx.elim)
  obtain ⟨rfl, rfl⟩ := hp_
  refine k_ifne_b C dX9_step_4 (tgt := 14) (by decide) (fun g1 => ?_) (fun g2 => ?_)
  · rw [g1] at e; cases e
  · refine k_aload_n C dX9_step_7 rfl ?_
    refine kx_V C rfl mv_X9_50 dX9_step_8 ((c_rnHung hR H G hT hc0 (by omega))) (by assumption) rfl rfl (Nat.le_of_ble_eq_true rfl) ⟨(Nat.le_of_ble_eq_true rfl), (Nat.le_of_ble_eq_true rfl)⟩ (by omega) (fun v h1 hp_ => ?_) (fun _ _ hx => hx.elim)
    obtain ⟨rfl, rfl⟩ := hp_
    refine k_ifeq_b C dX9_step_11 (tgt := 16) (by decide) (fun g3 => ?_) (fun g4 => ?_)
    · refine k_aload_n C dX9_step_16 rfl ?_
      refine k_get C fg_X9_9 dX9_step_17 (by assumption) (by rfl) ?_
      refine k_aload_n C dX9_step_20 rfl ?_
      refine k_get C fg_X9_23 dX9_step_21 (by assumption) (by rfl) ?_
      refine k_aload_n C dX9_step_24 rfl ?_
      refine kx_V C rfl mv_X9_42 dX9_step_25 ((c_rnUnder hR H hc0 (by omega))) (by assumption) rfl rfl (Nat.le_of_ble_eq_true rfl) ⟨(Nat.le_of_ble_eq_true rfl), (Nat.le_of_ble_eq_true rfl)⟩ (by omega) (fun v h1 hp_ => ?_) (fun _ _ hx => hx.elim)
      obtain ⟨rfl, rfl⟩ := hp_
      refine kx_V C rfl mv_X9_46 dX9_step_28 ((c_mdCell G1 G2 hT.2.1 (by omega) (by omega))) (by assumption) rfl rfl (Nat.le_of_ble_eq_true rfl) ⟨(Nat.le_of_ble_eq_true rfl), (Nat.le_of_ble_eq_true rfl)⟩ (by omega) (fun v h1 hp_ => ?_) (fun _ _ hx => hx.elim)
      obtain ⟨rfl, rfl⟩ := hp_
      rw [hf]
      refine k_astore_n (x := p) C dX9_step_31 (Nat.le_of_ble_eq_true rfl) rfl ?_
      refine k_aload_n C dX9_step_32 rfl ?_
      refine k_get C fg_X9_19 dX9_step_33 (by assumption) (by rfl) ?_
      refine k_aload_n C dX9_step_36 rfl ?_
      refine k_get C fg_X9_15 dX9_step_37 (by assumption) (by rfl) ?_
      refine k_aload_n C dX9_step_40 rfl ?_
      refine k_get C fg_X9_35 dX9_step_41 (by assumption) (by rfl) ?_
      refine k_iadd C dX9_step_44 ?_
      refine k_aload_n C dX9_step_45 rfl ?_
      refine k_iconst C dX9_step_46 ?_
      refine k_iald C dX9_step_47 (by assumption) (by rfl) (by omega) ?_
      rw [e0]
      have hpt : p ≠ tp := ne_cel hp H2 (ne_len (by omega))
      refine k_iast C dX9_step_48 (by assumption) (by omega) (fun k1 P1 => ?_)
      rw [show ((R : Nat) : Int) + 1 + c.pl = ((R + 1 : Nat) : Int) + c.pl by omega, shf_up] at P1
      have A1 := P1.2.2 _ _ H1 (Ne.symm hat)
      have B1 := P1.2.2 _ _ hp hpt
      refine k_aload_n C dX9_step_49 rfl ?_
      refine k_dup C dX9_step_50 rfl ?_
      refine k_get C fg_X9_35 dX9_step_51 (by assumption) (by rfl) ?_
      refine k_aload_n C dX9_step_54 rfl ?_
      refine k_iconst C dX9_step_55 ?_
      refine k_iald C dX9_step_56 (by assumption) (by rfl) (by omega) ?_
      rw [e1]
      refine k_iadd C dX9_step_57 ?_
      refine k_put C fg_X9_35 ft_8_4 dX9_step_58 (by assumption) rfl rfl rfl (fun k2 P2 => ?_)
      have A2 := P2.2.1
      have B2 := P2.2.2 _ _ B1 hpa
      refine k_aload_n C dX9_step_61 rfl ?_
      refine k_aload_n C dX9_step_62 rfl ?_
      refine k_iconst C dX9_step_63 ?_
      refine k_iald C dX9_step_64 (by assumption) (by rfl) (by omega) ?_
      rw [e2]
      refine k_put C fg_X9_23 ft_8_3 dX9_step_65 (by assumption) rfl rfl rfl (fun k3 P3 => ?_)
      have A3 := P3.2.1
      refine k_aload_n C dX9_step_68 rfl ?_
      refine k_aload_n C dX9_step_69 rfl ?_
      refine k_get C fg_X9_53 dX9_step_70 (by assumption) (by rfl) ?_
      refine k_aload_n C dX9_step_73 rfl ?_
      refine k_get C fg_X9_35 dX9_step_74 (by assumption) (by rfl) ?_
      refine k_min C rfl q1406 dX9_step_77 (by omega) ⟨(Nat.le_of_ble_eq_true rfl), (Nat.le_of_ble_eq_true rfl)⟩ (by omega) ?_
      refine k_put C fg_X9_53 ft_8_6 dX9_step_80 (by assumption) rfl rfl rfl (fun k4 P4 => ?_)
      have A4 := P4.2.1
      refine k_aload_n C dX9_step_83 rfl ?_
      refine k_aload_n C dX9_step_84 rfl ?_
      refine k_get C fg_X9_62 dX9_step_85 (by assumption) (by rfl) ?_
      refine k_aload_n C dX9_step_88 rfl ?_
      refine k_get C fg_X9_35 dX9_step_89 (by assumption) (by rfl) ?_
      refine k_max C rfl q1407 dX9_step_92 (by omega) ⟨(Nat.le_of_ble_eq_true rfl), (Nat.le_of_ble_eq_true rfl)⟩ (by omega) ?_
      refine k_put C fg_X9_62 ft_8_7 dX9_step_95 (by assumption) rfl rfl rfl (fun k5 P5 => ?_)
      have A5 := P5.2.1
      refine k_aload_n C dX9_step_98 rfl ?_
      refine k_dup C dX9_step_99 rfl ?_
      refine k_get C fg_X9_68 dX9_step_100 (by assumption) (by rfl) ?_
      refine k_iconst C dX9_step_103 ?_
      refine k_iadd C dX9_step_104 ?_
      refine k_put C fg_X9_68 ft_8_5 dX9_step_105 (by assumption) rfl rfl rfl (fun k6 P6 => ?_)
      have Q := (((P2.trans P3).trans P4).trans P5).trans P6
      have hU : Upd h1 k6 [a, tp] := (P1.upd.sub (by simp)).trans Q.upd (fun x hx => Or.inl (by simpa using Or.inl (by simpa using hx)))
      refine k_iconst C dX9_step_108 ?_
      exact k_zret (b := true) C E dX9_step_109 (by omega) ⟨rfl, hU, Q.2.1, Q.2.2 _ _ P1.2.1 hat⟩
    · rw [g4] at e; simp at e
/-- a run of so many steps -/
theorem c_run {w : Wd} {h : Hp} {md R cs : Nat} {T : Tb} {kv av bv : Int} (hR : R < 1000) (G : isMd h md cs T kv av bv) (hT : TbOk T) : Ct w yX6_run (ws_ yX6_run cX6_run 3 (some (FieldType.object "HaltingaleModel$Run"))) 3 63 2 (11 + 2 * R) [.ref md, jI (R : Nat)] h (fun v h' => ∃ q tp, v = some (.ref q) ∧ h.2 q = none ∧ h.2 tp = none ∧ isRn h' q md tp R (runN T R c0) ∧ Ext h h') NoX := by
  have G1 := G.1
  refine Ct.of (by decide) [some (.ref md), some (jI (R : Nat)), none] rfl (Nat.le_of_ble_eq_true rfl) (fun K C E N0 => ?_)
  refine k_new C nw_X6_30 dX6_run_0 (by omega) (fun q h1 N1 => ?_)
  have q1 := N1.2.1
  refine k_dup C dX6_run_3 rfl ?_
  refine k_aload_n C dX6_run_4 rfl ?_
  refine k_iload_n C dX6_run_5 rfl ?_
  refine kx_I C rfl mi_X6_32 dX6_run_6 ((c_rnInit hR q1)) rfl rfl (Nat.le_of_ble_eq_true rfl) ⟨(Nat.le_of_ble_eq_true rfl), (Nat.le_of_ble_eq_true rfl)⟩ (by omega) (fun v h2 hp_ => ?_) (fun _ _ hx => hx.elim)
  obtain ⟨rfl, tp, t2, W2, U2⟩ := hp_
  have M := wk_made N1 t2 U2 ((Ext.refl h2).upd [q, tp])
  have loop : ∀ (d : Nat) (hh : Hp) (c : Cf), c.n + d = R → Upd h2 hh [q, tp] → isRn hh q md tp R c → CfOk T c → runN T d c = runN T R c0 → Wk w K hh 2 (11 + 2 * R) 10 [some (.ref md), some (jI (R : Nat)), some (.ref q)] [] := by
    intro d
    induction d with
    | zero =>
      intro hh c hd U W ok hr
      have W1 := W.1
      have MM := wk_made N1 t2 U2 U
      refine k_aload_n C dX6_run_10 rfl ?_
      refine k_getN C fn_X6_35 dX6_run_11 (by assumption) (by rfl) ?_
      refine k_iload_n C dX6_run_14 rfl ?_
      refine k_icmp_ge C dX6_run_15 (tgt := 28) (by decide) (by omega) (fun g1 => ?_) (fun g2 => ?_)
      · refine k_aload_n C dX6_run_28 rfl ?_
        exact k_aret C (Or.inl ⟨_, rfl⟩) E dX6_run_29 (by omega) ⟨q, tp, rfl, N1.1, MM.2.2.2, by rw [← hr]; exact W, MM.2.1⟩
      · omega
    | succ d ih =>
      intro hh c hd U W ok hr
      have W1 := W.1
      have MM := wk_made N1 t2 U2 U
      refine k_aload_n C dX6_run_10 rfl ?_
      refine k_getN C fn_X6_35 dX6_run_11 (by assumption) (by rfl) ?_
      refine k_iload_n C dX6_run_14 rfl ?_
      refine k_icmp_ge C dX6_run_15 (tgt := 28) (by decide) (by omega) (fun g1 => ?_) (fun g2 => ?_)
      · omega
      · refine k_aload_n C dX6_run_18 rfl ?_
        cases hx : nxt T c with
        | none =>
          rw [runN_stop hx] at hr
          refine kx_V C rfl mv_X6_38 dX6_run_19 ((c_rnStepN hR W (G.ext MM.2.1) hT ok (by omega) hx)) (by assumption) rfl rfl (Nat.le_of_ble_eq_true rfl) ⟨(Nat.le_of_ble_eq_true rfl), (Nat.le_of_ble_eq_true rfl)⟩ (by omega) (fun v h3 hp_ => ?_) (fun _ _ hx => hx.elim)
          obtain ⟨rfl, rfl⟩ := hp_
          refine k_ifeq_b C dX6_run_22 (tgt := 28) (by decide) (fun g3 => ?_) (fun g3 => by cases g3)
          refine k_aload_n C dX6_run_28 rfl ?_
          exact k_aret C (Or.inl ⟨_, rfl⟩) E dX6_run_29 (by omega) ⟨q, tp, rfl, N1.1, MM.2.2.2, by rw [← hr]; exact W, MM.2.1⟩
        | some r =>
          rw [runN_go hx] at hr
          refine kx_V C rfl mv_X6_38 dX6_run_19 ((c_rnStepS hR W (G.ext MM.2.1) hT ok (by omega) hx)) (by assumption) rfl rfl (Nat.le_of_ble_eq_true rfl) ⟨(Nat.le_of_ble_eq_true rfl), (Nat.le_of_ble_eq_true rfl)⟩ (by omega) (fun v h3 hp_ => ?_) (fun _ _ hx => hx.elim)
          obtain ⟨rfl, U3, W3⟩ := hp_
          refine k_ifeq_b C dX6_run_22 (tgt := 28) (by decide) (fun g3 => by cases g3) (fun g3 => ?_)
          refine k_goto C dX6_run_25 (tgt := 10) (by decide) ?_
          exact ih h3 (adv c r) (by show c.n + 1 + d = R; omega) (U.trans U3 (fun x hx => Or.inl hx)) W3 (adv_ok hT ok hx) hr
  refine k_astore_n C dX6_run_9 (Nat.le_of_ble_eq_true rfl) rfl ?_
  exact Wk.widen (n' := 2) (k' := 11 + 2 * R) (by omega) (by omega) (loop R h2 c0 (by show 0 + R = R; omega) ((Ext.refl h2).upd _) W2 c0_ok rfl)
theorem c_rnOnes {w : Wd} {h : Hp} {a md tp R : Nat} {T : Tb} {c : Cf} (hR : R < 1000) (H : isRn h a md tp R c) (hc : CfOk T c) (hn : c.n ≤ R) : Ct w yX9_ones (ws_ yX9_ones cX9_ones 3 (some FieldType.int)) 2 43 0 0 [.ref a] h (fun v h' => v = some (jI (onesC c)) ∧ h' = h) NoX := by
  have H1 := H.1
  have hc0 := hc
  obtain ⟨-, ⟨h3, h4, h5, h6, h7, h8⟩, h9, h10⟩ := hc
  refine Ct.of (by decide) [some (.ref a), none, none] rfl (Nat.le_of_ble_eq_true rfl) (fun K C E N0 => ?_)
  have loop : ∀ (d i : Nat), i + d = (c.gr - c.le + 1).toNat → Wk w K h 0 0 7 [some (.ref a), some (jI (sumF c.tp c.le i)), some (jI (c.le + i))] [] := by
    intro d
    induction d with
    | zero =>
      intro i hi
      have hi' : i = (c.gr - c.le + 1).toNat := by omega
      subst hi'
      refine k_iload_n C dX9_ones_7 rfl ?_
      refine k_aload_n C dX9_ones_8 rfl ?_
      refine k_get C fg_X9_62 dX9_ones_9 (by assumption) (by rfl) ?_
      refine k_icmp_gt C dX9_ones_12 (tgt := 29) (by decide) (by omega) (fun g1 => ?_) (fun g2 => ?_)
      · refine k_iload_n C dX9_ones_29 rfl ?_
        exact k_iret C E dX9_ones_30 (by omega) ⟨rfl, rfl⟩
      · omega
    | succ d ih =>
      intro i hi
      refine k_iload_n C dX9_ones_7 rfl ?_
      refine k_aload_n C dX9_ones_8 rfl ?_
      refine k_get C fg_X9_62 dX9_ones_9 (by assumption) (by rfl) ?_
      refine k_icmp_gt C dX9_ones_12 (tgt := 29) (by decide) (by omega) (fun g1 => ?_) (fun g2 => ?_)
      · omega
      · refine k_iload_n C dX9_ones_15 rfl ?_
        refine k_aload_n C dX9_ones_16 rfl ?_
        refine k_iload_n C dX9_ones_17 rfl ?_
        refine kx_V C rfl mv_X9_71 dX9_ones_18 ((c_rnAt hR H hc0 (by omega) (by omega))) (by assumption) rfl rfl (Nat.le_of_ble_eq_true rfl) ⟨(Nat.le_of_ble_eq_true rfl), (Nat.le_of_ble_eq_true rfl)⟩ (by omega) (fun v kk hp_ => ?_) (fun _ _ hx => hx.elim)
        obtain ⟨rfl, rfl⟩ := hp_
        refine k_iadd C dX9_ones_21 ?_
        refine k_istore_n C dX9_ones_22 (Nat.le_of_ble_eq_true rfl) rfl ?_
        refine k_iinc C dX9_ones_23 rfl rfl ?_
        refine k_goto C dX9_ones_26 (tgt := 7) (by decide) ?_
        have es : sumF c.tp c.le i + c.tp (c.le + i) = sumF c.tp c.le (i + 1) := rfl
        rw [es, show c.le + (i : Int) + 1 = c.le + ((i + 1 : Nat) : Int) by omega]
        exact ih (i + 1) (by omega)
  refine k_iconst C dX9_ones_0 ?_
  refine k_istore_n C dX9_ones_1 (Nat.le_of_ble_eq_true rfl) rfl ?_
  refine k_aload_n C dX9_ones_2 rfl ?_
  refine k_get C fg_X9_53 dX9_ones_3 (by assumption) (by rfl) ?_
  refine k_istore_n C dX9_ones_6 (Nat.le_of_ble_eq_true rfl) rfl ?_
  have z := loop (c.gr - c.le + 1).toNat 0 (by omega)
  rw [show c.le + ((0 : Nat) : Int) = c.le by omega, show sumF c.tp c.le 0 = 0 from rfl] at z
  exact z
theorem c_rnRuns {w : Wd} {h : Hp} {a md tp R : Nat} {T : Tb} {c : Cf} (hR : R < 1000) (H : isRn h a md tp R c) (hc : CfOk T c) (hn : c.n ≤ R) : Ct w yX9_runs (ws_ yX9_runs cX9_runs 3 (some FieldType.int)) 2 43 0 0 [.ref a] h (fun v h' => v = some (jI (runsC c)) ∧ h' = h) NoX := by
  have H1 := H.1
  have hc0 := hc
  obtain ⟨-, ⟨h3, h4, h5, h6, h7, h8⟩, h9, h10⟩ := hc
  refine Ct.of (by decide) [some (.ref a), none, none] rfl (Nat.le_of_ble_eq_true rfl) (fun K C E N0 => ?_)
  have loop : ∀ (d i : Nat), i + d = (c.gr - c.le).toNat → Wk w K h 0 0 7 [some (.ref a), some (jI (1 + sumF (fun j => if c.tp j = c.tp (j - 1) then 0 else 1) (c.le + 1) i)), some (jI (c.le + i))] [] := by
    intro d
    induction d with
    | zero =>
      intro i hi
      have hi' : i = (c.gr - c.le).toNat := by omega
      subst hi'
      refine k_iload_n C dX9_runs_7 rfl ?_
      refine k_aload_n C dX9_runs_8 rfl ?_
      refine k_get C fg_X9_62 dX9_runs_9 (by assumption) (by rfl) ?_
      refine k_icmp_ge C dX9_runs_12 (tgt := 44) (by decide) (by omega) (fun g1 => ?_) (fun g2 => ?_)
      · refine k_iload_n C dX9_runs_44 rfl ?_
        exact k_iret C E dX9_runs_45 (by omega) ⟨rfl, rfl⟩
      · omega
    | succ d ih =>
      intro i hi
      have e2 : sumF (fun j => if c.tp j = c.tp (j - 1) then 0 else 1) (c.le + 1) (i + 1) = sumF (fun j => if c.tp j = c.tp (j - 1) then 0 else 1) (c.le + 1) i + (if c.tp (c.le + 1 + i) = c.tp (c.le + 1 + i - 1) then 0 else 1) := rfl
      rw [show c.le + 1 + (i : Int) - 1 = c.le + i by omega, show c.le + 1 + (i : Int) = c.le + i + 1 by omega] at e2
      have b1 := h9 (c.le + i)
      have b2 := h9 (c.le + i + 1)
      refine k_iload_n C dX9_runs_7 rfl ?_
      refine k_aload_n C dX9_runs_8 rfl ?_
      refine k_get C fg_X9_62 dX9_runs_9 (by assumption) (by rfl) ?_
      refine k_icmp_ge C dX9_runs_12 (tgt := 44) (by decide) (by omega) (fun g1 => ?_) (fun g2 => ?_)
      · omega
      · refine k_iload_n C dX9_runs_15 rfl ?_
        refine k_aload_n C dX9_runs_16 rfl ?_
        refine k_iload_n C dX9_runs_17 rfl ?_
        refine kx_V C rfl mv_X9_71 dX9_runs_18 ((c_rnAt hR H hc0 (by omega) (by omega))) (by assumption) rfl rfl (Nat.le_of_ble_eq_true rfl) ⟨(Nat.le_of_ble_eq_true rfl), (Nat.le_of_ble_eq_true rfl)⟩ (by omega) (fun v kk hp_ => ?_) (fun _ _ hx => hx.elim)
        obtain ⟨rfl, rfl⟩ := hp_
        refine k_aload_n C dX9_runs_21 rfl ?_
        refine k_iload_n C dX9_runs_22 rfl ?_
        refine k_iconst C dX9_runs_23 ?_
        refine k_iadd C dX9_runs_24 ?_
        refine kx_V C rfl mv_X9_71 dX9_runs_25 ((c_rnAt hR H hc0 (by omega) (by omega))) (by assumption) rfl rfl (Nat.le_of_ble_eq_true rfl) ⟨(Nat.le_of_ble_eq_true rfl), (Nat.le_of_ble_eq_true rfl)⟩ (by omega) (fun v kk hp_ => ?_) (fun _ _ hx => hx.elim)
        obtain ⟨rfl, rfl⟩ := hp_
        refine k_icmp_ne C dX9_runs_28 (tgt := 35) (by decide) (by omega) (fun g3 => ?_) (fun g4 => ?_)
        · refine k_iconst C dX9_runs_35 ?_
          refine k_iadd C dX9_runs_36 ?_
          refine k_istore_n C dX9_runs_37 (Nat.le_of_ble_eq_true rfl) rfl ?_
          refine k_iinc C dX9_runs_38 rfl rfl ?_
          refine k_goto C dX9_runs_41 (tgt := 7) (by decide) ?_
          rw [if_neg (fun z => g3 z.symm)] at e2
          rw [Int.add_assoc 1, ← e2, show c.le + (i : Int) + 1 = c.le + ((i + 1 : Nat) : Int) by omega]
          exact ih (i + 1) (by omega)
        · refine k_iconst C dX9_runs_31 ?_
          refine k_goto C dX9_runs_32 (tgt := 36) (by decide) ?_
          refine k_iadd C dX9_runs_36 ?_
          refine k_istore_n C dX9_runs_37 (Nat.le_of_ble_eq_true rfl) rfl ?_
          refine k_iinc C dX9_runs_38 rfl rfl ?_
          refine k_goto C dX9_runs_41 (tgt := 7) (by decide) ?_
          rw [if_pos g4.symm] at e2
          rw [Int.add_assoc 1, ← e2, show c.le + (i : Int) + 1 = c.le + ((i + 1 : Nat) : Int) by omega]
          exact ih (i + 1) (by omega)
  refine k_iconst C dX9_runs_0 ?_
  refine k_istore_n C dX9_runs_1 (Nat.le_of_ble_eq_true rfl) rfl ?_
  refine k_aload_n C dX9_runs_2 rfl ?_
  refine k_get C fg_X9_53 dX9_runs_3 (by assumption) (by rfl) ?_
  refine k_istore_n C dX9_runs_6 (Nat.le_of_ble_eq_true rfl) rfl ?_
  have z := loop (c.gr - c.le).toNat 0 (by omega)
  rw [show c.le + ((0 : Nat) : Int) = c.le by omega, show (1 : Int) + sumF (fun j => if c.tp j = c.tp (j - 1) then 0 else 1) (c.le + 1) 0 = 1 from rfl] at z
  exact z
