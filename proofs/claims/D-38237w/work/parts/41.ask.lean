/-! ===== more of what is asked ===== -/
set_option maxRecDepth 100000
/-! ### meets -/
def mtF (T : Tb) (s b : Int) : Nat → Nat → Cf → Int
  | 0, k, c => if c.st = s ∧ c.tp c.pl = b then k else -1
  | d + 1, k, c => if c.st = s ∧ c.tp c.pl = b then k else match nxt T c with
    | none => -1
    | some r => mtF T s b d (k + 1) (adv c r)
theorem mtF_hit {T : Tb} {s b : Int} {d k : Nat} {c : Cf} (h : c.st = s ∧ c.tp c.pl = b) : mtF T s b d k c = k := by
  cases d with
  | zero => unfold mtF; rw [if_pos h]
  | succ d => unfold mtF; rw [if_pos h]
theorem mtF_end {T : Tb} {s b : Int} {d k : Nat} {c : Cf} (h : ¬ (c.st = s ∧ c.tp c.pl = b)) (e : nxt T c = none) : mtF T s b d k c = -1 := by
  cases d with
  | zero => unfold mtF; rw [if_neg h]
  | succ d => unfold mtF; rw [if_neg h, e]
theorem mtF_on {T : Tb} {s b : Int} {d k : Nat} {c : Cf} {r : Ru} (h : ¬ (c.st = s ∧ c.tp c.pl = b)) (e : nxt T c = some r) : mtF T s b (d + 1) k c = mtF T s b d (k + 1) (adv c r) := by rw [mtF, if_neg h, e]
theorem mtF_0 {T : Tb} {s b : Int} {k : Nat} {c : Cf} (h : ¬ (c.st = s ∧ c.tp c.pl = b)) : mtF T s b 0 k c = -1 := by rw [mtF, if_neg h]
def meetK (σ : Sg) (m s b t : Int) : Nat := if cellOk σ m s b then (if 0 ≤ t ∧ t ≤ 500 then 0 else 2) else 1
theorem c_meetsX {w : Wd} {h : Hp} {x : Nat} {X : XL} {σ : Sg} {m s b t : Int} (H : isX w h x X σ) (hσ : SgOk σ) (hm : i32 m) (hs : i32 s) (hb : i32 b) (ht : i32 t) : Ct w yX1_meets (ws_ yX1_meets cX1_meets 8 (some FieldType.int)) 11 266 6 1033 [.ref x, jI m, jI s, jI b, jI t] h (fun v h' => meetK σ m s b t = 0 ∧ v = some (jI (mtF (σ.ms m.toNat).1 s b t.toNat 0 c0)) ∧ Ext h h') (fun E h' => exOf [sIOB, sIAE] (meetK σ m s b t) E ∧ Ext h h') := by
  have hX := H.1
  unfold i32 at ht
  have hb' := hb
  have hs' := hs
  unfold meetK cellOk
  refine Ct.of (by decide) [some (.ref x), some (jI m), some (jI s), some (jI b), some (jI t), none, none, none] rfl (Nat.le_of_ble_eq_true rfl) (fun K C E N0 => ?_)
  refine k_aload_n C dX1_meets_0 rfl ?_
  refine k_iload_n C dX1_meets_1 rfl ?_
  refine k_iload_n C dX1_meets_2 rfl ?_
  refine k_iload_n C dX1_meets_3 rfl ?_
  refine kx_V C rfl mv_X1_197 dX1_meets_4 ((c_cellAt H hσ hm hs' hb')) (by assumption) rfl rfl (Nat.le_of_ble_eq_true rfl) ⟨(Nat.le_of_ble_eq_true rfl), (Nat.le_of_ble_eq_true rfl)⟩ (by omega) (fun v kk hp_ => ?_) (fun E1 h1 hx => x_pass C E N0 (by omega) ⟨by rw [decide_eq_false hx.1]; rw [hx.2.1]; exact ex1, hx.2.2⟩)
  obtain ⟨hin, rfl, rfl⟩ := hp_
  rw [decide_eq_true hin] at E
  obtain ⟨⟨k, hk, -⟩, G⟩ := H.2.2.2.2.1 m.toNat (by omega)
  have hok := hσ.2.2.1 m.toNat (by omega)
  have hT2 := hok.1.2.1
  refine k_astore C dX1_meets_7 (Nat.le_of_ble_eq_true rfl) rfl ?_
  refine k_iload C dX1_meets_9 rfl ?_
  refine k_iconst C dX1_meets_11 ?_
  refine k_sipush C dX1_meets_12 (by decide) ?_
  refine kx_S C rfl ms_X1_170 dX1_meets_15 ((c_mustBeIn (by omega))) rfl rfl (Nat.le_of_ble_eq_true rfl) ⟨(Nat.le_of_ble_eq_true rfl), (Nat.le_of_ble_eq_true rfl)⟩ (by omega) (fun v kk hp_ => ?_) (fun E1 h1 hx => x_pass C E N0 (by omega) ⟨by rw [if_pos rfl, if_neg hx.1]; rw [hx.2.1]; exact ex2, hx.2.2⟩)
  obtain ⟨hin2, rfl, rfl⟩ := hp_
  rw [if_pos rfl, if_pos hin2] at E
  obtain ⟨S, hS⟩ : ∃ S : Nat, t = (S : Int) := ⟨t.toNat, by omega⟩
  subst hS
  rw [show ((S : Nat) : Int).toNat = S from rfl] at *
  generalize hres : mtF (σ.ms m.toNat).1 s b S 0 c0 = res at *
  refine k_new C nw_X1_3 dX1_meets_18 ⟨by omega, by omega⟩ (fun q g1 N1 => ?_)
  have q1 := N1.2.1
  refine k_dup C dX1_meets_21 rfl ?_
  refine k_aload C dX1_meets_22 rfl ?_
  refine k_iload C dX1_meets_24 rfl ?_
  refine kx_I C rfl mi_X1_5 dX1_meets_26 ((c_wkInit (R := S) (by omega) q1)) rfl rfl (Nat.le_of_ble_eq_true rfl) ⟨(Nat.le_of_ble_eq_true rfl), (Nat.le_of_ble_eq_true rfl)⟩ ⟨by omega, by omega⟩ (fun v g2 hp_ => ?_) (fun _ _ hx => hx.elim)
  obtain ⟨rfl, tp, t2, W2, U2⟩ := hp_
  have M := wk_made N1 t2 U2 ((Ext.refl g2).upd [q, tp])
  have loop : ∀ (d i n k : Nat) (hh : Hp) (c : Cf), i + d = S → c.n ≤ i → n ≤ 6 → k ≤ 1033 → isWk hh q (X.A m.toNat).2.1 tp S c → CfOk (σ.ms m.toNat).1 c → Upd g2 hh [q, tp] → mtF (σ.ms m.toNat).1 s b d i c = res → Wk w K hh n k 34 [some (.ref x), some (jI m), some (jI s), some (jI b), some (jI (S : Nat)), some (.ref (X.A m.toNat).2.1), some (.ref q), some (jI (i : Nat))] [] := by
    intro d
    induction d with
    | zero =>
      intro i n k hh c hi hn hn6 hk6 W ok U hr
      have W1 := W.1
      have MM := wk_made N1 t2 U2 U
      obtain ⟨⟨c1, c2⟩, ⟨c3, c4, c5, c6, c7, c8⟩, c9, c10⟩ := id ok
      have c9' := c9 c.pl
      have i0 : i = S := by omega
      have tail : ¬ (c.st = s ∧ c.tp c.pl = b) → Wk w K hh n k 67 [some (.ref x), some (jI m), some (jI s), some (jI b), some (jI (S : Nat)), some (.ref (X.A m.toNat).2.1), some (.ref q), some (jI (i : Nat))] [] := by
        intro hne
        rw [mtF_0 hne] at hr
        refine k_aload C dX1_meets_67 rfl ?_
        refine kx_V C rfl mv_X1_22 dX1_meets_69 ((c_goesOn (by omega) W (G.ext MM.2.1) hok.1 ok (by omega))) (by assumption) rfl rfl (Nat.le_of_ble_eq_true rfl) ⟨(Nat.le_of_ble_eq_true rfl), (Nat.le_of_ble_eq_true rfl)⟩ (by omega) (fun v k5 hp_ => ?_) (fun _ _ hx => hx.elim)
        obtain ⟨rfl, rfl⟩ := hp_
        refine k_ifne_b C dX1_meets_72 (tgt := 77) (by decide) (fun g5 => ?_) (fun g6 => ?_)
        · refine k_iload C dX1_meets_77 rfl ?_
          refine k_iload C dX1_meets_79 rfl ?_
          refine k_icmp_ge C dX1_meets_81 (tgt := 89) (by decide) (by omega) (fun g7 => ?_) (fun g8 => ?_)
          · refine k_iinc C dX1_meets_89 rfl rfl ?_
            refine k_goto C dX1_meets_92 (tgt := 34) (by decide) ?_
            refine k_iload C dX1_meets_34 rfl ?_
            refine k_iload C dX1_meets_36 rfl ?_
            refine k_icmp_gt C dX1_meets_38 (tgt := 95) (by decide) (by omega) (fun g9 => ?_) (fun g10 => ?_)
            · refine k_iconst C dX1_meets_95 ?_
              rw [hr]
              exact k_iret C E dX1_meets_96 (by omega) ⟨rfl, rfl, MM.2.1⟩
            · omega
          · omega
        · refine k_iconst C dX1_meets_75 ?_
          rw [hr]
          exact k_iret C E dX1_meets_76 (by omega) ⟨rfl, rfl, MM.2.1⟩
      refine k_iload C dX1_meets_34 rfl ?_
      refine k_iload C dX1_meets_36 rfl ?_
      refine k_icmp_gt C dX1_meets_38 (tgt := 95) (by decide) (by omega) (fun g1 => ?_) (fun g2 => ?_)
      · omega
      · refine k_aload C dX1_meets_41 rfl ?_
        refine k_getN C fn_X1_234 dX1_meets_43 (by assumption) (by rfl) ?_
        refine k_iload_n C dX1_meets_46 rfl ?_
        refine k_icmp_ne C dX1_meets_47 (tgt := 67) (by decide) (by omega) (fun g3 => ?_) (fun g4 => ?_)
        · exact tail (fun z => g3 z.1)
        · refine k_aload C dX1_meets_50 rfl ?_
          refine k_aload C dX1_meets_52 rfl ?_
          refine k_getN C fn_X1_18 dX1_meets_54 (by assumption) (by rfl) ?_
          refine kx_V C rfl mv_X1_237 dX1_meets_57 ((c_wkSymbol (by omega) W ok (by omega) (by omega))) (by assumption) rfl rfl (Nat.le_of_ble_eq_true rfl) ⟨(Nat.le_of_ble_eq_true rfl), (Nat.le_of_ble_eq_true rfl)⟩ (by omega) (fun v k3 hp_ => ?_) (fun _ _ hx => hx.elim)
          obtain ⟨rfl, rfl⟩ := hp_
          refine k_iload_n C dX1_meets_60 rfl ?_
          refine k_icmp_ne C dX1_meets_61 (tgt := 67) (by decide) (by omega) (fun g5 => ?_) (fun g6 => ?_)
          · exact tail (fun z => g5 z.2)
          · rw [mtF_hit ⟨g4, g6⟩] at hr
            refine k_iload C dX1_meets_64 rfl ?_
            rw [hr]
            exact k_iret C E dX1_meets_66 (by omega) ⟨rfl, rfl, MM.2.1⟩
    | succ d ih =>
      intro i n k hh c hi hn hn6 hk6 W ok U hr
      have W1 := W.1
      have MM := wk_made N1 t2 U2 U
      obtain ⟨⟨c1, c2⟩, ⟨c3, c4, c5, c6, c7, c8⟩, c9, c10⟩ := id ok
      have c9' := c9 c.pl
      have tail : ¬ (c.st = s ∧ c.tp c.pl = b) → Wk w K hh n k 67 [some (.ref x), some (jI m), some (jI s), some (jI b), some (jI (S : Nat)), some (.ref (X.A m.toNat).2.1), some (.ref q), some (jI (i : Nat))] [] := by
        intro hne
        refine k_aload C dX1_meets_67 rfl ?_
        refine kx_V C rfl mv_X1_22 dX1_meets_69 ((c_goesOn (by omega) W (G.ext MM.2.1) hok.1 ok (by omega))) (by assumption) rfl rfl (Nat.le_of_ble_eq_true rfl) ⟨(Nat.le_of_ble_eq_true rfl), (Nat.le_of_ble_eq_true rfl)⟩ (by omega) (fun v k5 hp_ => ?_) (fun _ _ hx => hx.elim)
        obtain ⟨rfl, rfl⟩ := hp_
        refine k_ifne_b C dX1_meets_72 (tgt := 77) (by decide) (fun g5 => ?_) (fun g6 => ?_)
        · obtain ⟨r, hr2⟩ := Option.isSome_iff_exists.mp g5
          rw [mtF_on hne hr2] at hr
          refine k_iload C dX1_meets_77 rfl ?_
          refine k_iload C dX1_meets_79 rfl ?_
          refine k_icmp_ge C dX1_meets_81 (tgt := 89) (by decide) (by omega) (fun g7 => ?_) (fun g8 => ?_)
          · omega
          · refine k_aload C dX1_meets_84 rfl ?_
            refine kx_V C rfl mv_X1_26 dX1_meets_86 ((c_step (by omega) W (G.ext MM.2.1) hok.1 ok (by omega) hr2)) (by assumption) rfl rfl (Nat.le_of_ble_eq_true rfl) ⟨(Nat.le_of_ble_eq_true rfl), (Nat.le_of_ble_eq_true rfl)⟩ (by omega) (fun v k6 hp_ => ?_) (fun _ _ hx => hx.elim)
            obtain ⟨rfl, U6, W6⟩ := hp_
            refine k_iinc C dX1_meets_89 rfl rfl ?_
            refine k_goto C dX1_meets_92 (tgt := 34) (by decide) ?_
            exact ih (i + 1) _ _ k6 (adv c r) (by omega) (by show c.n + 1 ≤ i + 1; omega) (by omega) (by omega) W6 (adv_ok hok.1 ok hr2) (U.trans U6 (fun x hx => Or.inl hx)) hr
        · rw [mtF_end hne (by simpa using g6)] at hr
          refine k_iconst C dX1_meets_75 ?_
          rw [hr]
          exact k_iret C E dX1_meets_76 (by omega) ⟨rfl, rfl, MM.2.1⟩
      refine k_iload C dX1_meets_34 rfl ?_
      refine k_iload C dX1_meets_36 rfl ?_
      refine k_icmp_gt C dX1_meets_38 (tgt := 95) (by decide) (by omega) (fun g1 => ?_) (fun g2 => ?_)
      · omega
      · refine k_aload C dX1_meets_41 rfl ?_
        refine k_getN C fn_X1_234 dX1_meets_43 (by assumption) (by rfl) ?_
        refine k_iload_n C dX1_meets_46 rfl ?_
        refine k_icmp_ne C dX1_meets_47 (tgt := 67) (by decide) (by omega) (fun g3 => ?_) (fun g4 => ?_)
        · exact tail (fun z => g3 z.1)
        · refine k_aload C dX1_meets_50 rfl ?_
          refine k_aload C dX1_meets_52 rfl ?_
          refine k_getN C fn_X1_18 dX1_meets_54 (by assumption) (by rfl) ?_
          refine kx_V C rfl mv_X1_237 dX1_meets_57 ((c_wkSymbol (by omega) W ok (by omega) (by omega))) (by assumption) rfl rfl (Nat.le_of_ble_eq_true rfl) ⟨(Nat.le_of_ble_eq_true rfl), (Nat.le_of_ble_eq_true rfl)⟩ (by omega) (fun v k3 hp_ => ?_) (fun _ _ hx => hx.elim)
          obtain ⟨rfl, rfl⟩ := hp_
          refine k_iload_n C dX1_meets_60 rfl ?_
          refine k_icmp_ne C dX1_meets_61 (tgt := 67) (by decide) (by omega) (fun g5 => ?_) (fun g6 => ?_)
          · exact tail (fun z => g5 z.2)
          · rw [mtF_hit ⟨g4, g6⟩] at hr
            refine k_iload C dX1_meets_64 rfl ?_
            rw [hr]
            exact k_iret C E dX1_meets_66 (by omega) ⟨rfl, rfl, MM.2.1⟩
  refine k_astore C dX1_meets_29 (Nat.le_of_ble_eq_true rfl) rfl ?_
  refine k_iconst C dX1_meets_31 ?_
  refine k_istore C dX1_meets_32 (Nat.le_of_ble_eq_true rfl) rfl ?_
  exact loop S 0 _ _ g2 c0 (by omega) (Nat.le_refl _) (by omega) (by omega) W2 c0_ok ((Ext.refl g2).upd _) hres
/-! ### likeness -/
def likeC (T U : Tb) : Int := if asB false T U then 1 else if asB true T U then 2 else 0
def likeK (σ : Sg) (a b : Int) : Nat := if mchOk σ a && mchOk σ b then 0 else 1
theorem c_likenessX {w : Wd} {h : Hp} {x : Nat} {X : XL} {σ : Sg} {a b : Int} (H : isX w h x X σ) (hσ : SgOk σ) (ha : i32 a) (hb : i32 b) : Ct w yX1_likeness (ws_ yX1_likeness cX1_likeness 5 (some FieldType.int)) 10 242 18 60 [.ref x, jI a, jI b] h (fun v h' => likeK σ a b = 0 ∧ v = some (jI (likeC (σ.ms a.toNat).1 (σ.ms b.toNat).1)) ∧ Ext h h') (fun E h' => exOf [sIOB] (likeK σ a b) E ∧ Ext h h') := by
  have hX := H.1
  have ha' := ha
  have hb' := hb
  unfold likeK mchOk
  refine Ct.of (by decide) [some (.ref x), some (jI a), some (jI b), none, none] rfl (Nat.le_of_ble_eq_true rfl) (fun K C E N0 => ?_)
  refine k_aload_n C dX1_likeness_0 rfl ?_
  refine k_iload_n C dX1_likeness_1 rfl ?_
  refine kx_V C rfl mv_X1_162 dX1_likeness_2 ((c_machineAt H hσ ha')) (by assumption) rfl rfl (Nat.le_of_ble_eq_true rfl) ⟨(Nat.le_of_ble_eq_true rfl), (Nat.le_of_ble_eq_true rfl)⟩ (by omega) (fun v kk hp_ => ?_) (fun E1 h1 hx => x_pass C E N0 (by omega) ⟨by rw [decide_eq_false hx.1, hx.2.1]; exact ex1, hx.2.2⟩)
  obtain ⟨hin, rfl, rfl⟩ := hp_
  rw [decide_eq_true hin] at E
  obtain ⟨⟨k, hk, -⟩, G⟩ := H.2.2.2.2.1 a.toNat (by omega)
  have hok := hσ.2.2.1 a.toNat (by omega)
  refine k_getN C fn_X1_166 dX1_likeness_5 (by assumption) (by rfl) ?_
  refine k_astore_n C dX1_likeness_8 (Nat.le_of_ble_eq_true rfl) rfl ?_
  refine k_aload_n C dX1_likeness_9 rfl ?_
  refine k_iload_n C dX1_likeness_10 rfl ?_
  refine kx_V C rfl mv_X1_162 dX1_likeness_11 ((c_machineAt H hσ hb')) (by assumption) rfl rfl (Nat.le_of_ble_eq_true rfl) ⟨(Nat.le_of_ble_eq_true rfl), (Nat.le_of_ble_eq_true rfl)⟩ (by omega) (fun v kk hp_ => ?_) (fun E1 h1 hx => x_pass C E N0 (by omega) ⟨by rw [decide_eq_false hx.1, hx.2.1]; exact ex1, hx.2.2⟩)
  obtain ⟨hin2, rfl, rfl⟩ := hp_
  rw [decide_eq_true hin2] at E
  obtain ⟨⟨k2, hk2, -⟩, G2⟩ := H.2.2.2.2.1 b.toNat (by omega)
  have hok2 := hσ.2.2.1 b.toNat (by omega)
  have G1 := G.1
  generalize hres : likeC (σ.ms a.toNat).1 (σ.ms b.toNat).1 = res at *
  unfold likeC at hres
  have b1 := hok.1.2.1
  refine k_getN C fn_X1_166 dX1_likeness_14 (by assumption) (by rfl) ?_
  refine k_astore C dX1_likeness_17 (Nat.le_of_ble_eq_true rfl) rfl ?_
  refine k_aload_n C dX1_likeness_19 rfl ?_
  refine k_aload C dX1_likeness_20 rfl ?_
  refine k_iconst C dX1_likeness_22 ?_
  refine kx_V C rfl mv_X1_378 dX1_likeness_23 ((c_tbIsAs (b := false) G G2 hok.1 hok2.1)) (by assumption) rfl rfl (Nat.le_of_ble_eq_true rfl) ⟨(Nat.le_of_ble_eq_true rfl), (Nat.le_of_ble_eq_true rfl)⟩ (by omega) (fun v g1 hp_ => ?_) (fun _ _ hx => hx.elim)
  obtain ⟨rfl, E1⟩ := hp_
  have G11 := (G.ext E1).1
  refine k_ifeq_b C dX1_likeness_26 (tgt := 33) (by decide) (fun g2 => ?_) (fun g3 => ?_)
  · rw [if_neg (by rw [g2]; decide)] at hres
    refine k_aload_n C dX1_likeness_33 rfl ?_
    refine k_aload C dX1_likeness_34 rfl ?_
    refine k_iconst C dX1_likeness_36 ?_
    refine kx_V C rfl mv_X1_378 dX1_likeness_37 ((c_tbIsAs (b := true) (G.ext E1) (G2.ext E1) hok.1 hok2.1)) (by assumption) rfl rfl (Nat.le_of_ble_eq_true rfl) ⟨(Nat.le_of_ble_eq_true rfl), (Nat.le_of_ble_eq_true rfl)⟩ (by omega) (fun v g4 hp_ => ?_) (fun _ _ hx => hx.elim)
    obtain ⟨rfl, E2⟩ := hp_
    refine k_ifeq_b C dX1_likeness_40 (tgt := 47) (by decide) (fun g5 => ?_) (fun g6 => ?_)
    · rw [if_neg (by rw [g5]; decide)] at hres
      refine k_iconst C dX1_likeness_47 ?_
      rw [hres]
      exact k_iret C E dX1_likeness_48 (by omega) ⟨rfl, rfl, E1.trans E2⟩
    · rw [if_pos g6] at hres
      refine k_iconst C dX1_likeness_43 ?_
      refine k_goto C dX1_likeness_44 (tgt := 48) (by decide) ?_
      rw [hres]
      exact k_iret C E dX1_likeness_48 (by omega) ⟨rfl, rfl, E1.trans E2⟩
  · rw [if_pos g3] at hres
    refine k_iconst C dX1_likeness_29 ?_
    refine k_goto C dX1_likeness_30 (tgt := 48) (by decide) ?_
    rw [hres]
    exact k_iret C E dX1_likeness_48 (by omega) ⟨rfl, rfl, E1⟩
/-! ### tagged, cycleIn, backIn, gramIn -/
def tagK (σ : Sg) (t r s : Int) : Nat := if 0 ≤ t ∧ t < σ.k then (if (1 ≤ r ∧ r ≤ 1023) ∧ (0 ≤ s ∧ s ≤ 200) then 0 else 2) else 1
theorem c_taggedX {w : Wd} {h : Hp} {x : Nat} {X : XL} {σ : Sg} {t r s : Int} (H : isX w h x X σ) (hσ : SgOk σ) (ht : i32 t) (hr : i32 r) (hs : i32 s) : Ct w yX1_tagged (ws_ yX1_tagged cX1_tagged 4 (some FieldType.int)) 10 242 3 18 [.ref x, jI t, jI r, jI s] h (fun v h' => tagK σ t r s = 0 ∧ v = some (jI (tagR (σ.tg t.toNat) s.toNat r.toNat)) ∧ Ext h h') (fun E h' => exOf [sIOB, sIAE] (tagK σ t r s) E ∧ Ext h h') := by
  obtain ⟨hX, -, ⟨f, h2, h3⟩, -, -, h8⟩ := H
  have hk := hσ.2.1
  have l1 := h2.1
  unfold i32 at ht hr hs
  unfold tagK
  refine Ct.of (by decide) [some (.ref x), some (jI t), some (jI r), some (jI s)] rfl (Nat.le_of_ble_eq_true rfl) (fun K C E N0 => ?_)
  refine k_iload_n C dX1_tagged_0 rfl ?_
  refine k_aload_n C dX1_tagged_1 rfl ?_
  refine k_get C fg_X1_134 dX1_tagged_2 (by assumption) (by rfl) ?_
  refine kx_F C rfl mf_X1_56 dX1_tagged_5 ((c_size l1)) (by assumption) rfl rfl (Nat.le_of_ble_eq_true rfl) ⟨(Nat.le_of_ble_eq_true rfl), (Nat.le_of_ble_eq_true rfl)⟩ (by omega) (fun v kk hp_ => ?_) (fun _ _ hx => hx.elim)
  obtain ⟨rfl, rfl⟩ := hp_
  refine kx_S C rfl ms_X1_157 dX1_tagged_10 ((c_checkPlace (by omega))) rfl rfl (Nat.le_of_ble_eq_true rfl) ⟨(Nat.le_of_ble_eq_true rfl), (Nat.le_of_ble_eq_true rfl)⟩ (by omega) (fun v kk hp_ => ?_) (fun E1 h1 hx => x_pass C E N0 (by omega) ⟨by rw [if_neg hx.1, hx.2.1]; exact ex1, hx.2.2⟩)
  obtain ⟨hin, rfl, rfl⟩ := hp_
  rw [if_pos hin] at E
  refine k_iload_n C dX1_tagged_13 rfl ?_
  refine k_iconst C dX1_tagged_14 ?_
  refine k_sipush C dX1_tagged_15 (by decide) ?_
  refine kx_S C rfl ms_X1_170 dX1_tagged_18 ((c_mustBeIn (by omega))) rfl rfl (Nat.le_of_ble_eq_true rfl) ⟨(Nat.le_of_ble_eq_true rfl), (Nat.le_of_ble_eq_true rfl)⟩ (by omega) (fun v kk hp_ => ?_) (fun E1 h1 hx => x_pass C E N0 (by omega) ⟨by rw [if_neg (fun z => hx.1 z.1), hx.2.1]; exact ex2, hx.2.2⟩)
  obtain ⟨hin2, rfl, rfl⟩ := hp_
  refine k_iload_n C dX1_tagged_21 rfl ?_
  refine k_iconst C dX1_tagged_22 ?_
  refine k_sipush C dX1_tagged_23 (by decide) ?_
  refine kx_S C rfl ms_X1_170 dX1_tagged_26 ((c_mustBeIn (by omega))) rfl rfl (Nat.le_of_ble_eq_true rfl) ⟨(Nat.le_of_ble_eq_true rfl), (Nat.le_of_ble_eq_true rfl)⟩ (by omega) (fun v kk hp_ => ?_) (fun E1 h1 hx => x_pass C E N0 (by omega) ⟨by rw [if_neg (fun z => hx.1 z.2), hx.2.1]; exact ex2, hx.2.2⟩)
  obtain ⟨hin3, rfl, rfl⟩ := hp_
  rw [if_pos ⟨hin2, hin3⟩] at E
  have e : ((t.toNat : Nat) : Int) = t := by omega
  have hf := h3 t.toNat (by omega)
  rw [e] at hf
  have g1 := h8 t.toNat (by omega)
  have g2 := hσ.2.2.2.1 t.toNat (by omega)
  have g11 := g1.1
  refine k_aload_n C dX1_tagged_29 rfl ?_
  refine k_get C fg_X1_134 dX1_tagged_30 (by assumption) (by rfl) ?_
  refine k_iload_n C dX1_tagged_33 rfl ?_
  refine kx_F C rfl mf_X1_60 dX1_tagged_34 ((c_get h2 (by omega) hf)) (by assumption) rfl rfl (Nat.le_of_ble_eq_true rfl) ⟨(Nat.le_of_ble_eq_true rfl), (Nat.le_of_ble_eq_true rfl)⟩ (by omega) (fun v kk hp_ => ?_) (fun _ _ hx => hx.elim)
  obtain ⟨rfl, rfl⟩ := hp_
  obtain ⟨R, hR⟩ : ∃ R : Nat, r = (R : Int) := ⟨r.toNat, by omega⟩
  obtain ⟨S, hS⟩ : ∃ S : Nat, s = (S : Int) := ⟨s.toNat, by omega⟩
  subst hR hS
  rw [show ((S : Nat) : Int).toNat = S from rfl, show ((R : Nat) : Int).toNat = R from rfl] at *
  refine k_castO C ck_X1_240_9 dX1_tagged_39 (by assumption) ?_
  refine k_iload_n C dX1_tagged_42 rfl ?_
  refine k_iload_n C dX1_tagged_43 rfl ?_
  refine kx_S C rfl ms_X1_395 dX1_tagged_44 ((c_taggedNow g1 g2 (by omega) (by omega))) rfl rfl (Nat.le_of_ble_eq_true rfl) ⟨(Nat.le_of_ble_eq_true rfl), (Nat.le_of_ble_eq_true rfl)⟩ (by omega) (fun v kk hp_ => ?_) (fun _ _ hx => hx.elim)
  obtain ⟨rfl, rfl⟩ := hp_
  exact k_iret C E dX1_tagged_47 (by omega) ⟨rfl, rfl, Ext.refl _⟩
theorem lk_le {a b : Nat} (h : a ≤ b) : lkC a ≤ lkC b ∧ lkS a ≤ lkS b := by
  have h1 := payC_le (show a + 1 ≤ b + 1 by omega)
  have h2 := payS_le (show a + 1 ≤ b + 1 by omega)
  have h3 : (a + 1) * (2 * a + 5) ≤ (b + 1) * (2 * b + 5) := Nat.mul_le_mul (by omega) (by omega)
  unfold lkC lkS
  omega
theorem lk_num : lkC 40 = 90 ∧ lkS 40 = 3706 ∧ lkC 30 = 69 ∧ lkS 30 = 2167 ∧ lkC 8 = 22 ∧ lkS 8 = 227 := by decide +kernel
def cycK (σ : Sg) (m b : Int) : Nat := if mchOk σ m then (if 1 ≤ b ∧ b ≤ 40 then 0 else 2) else 1
theorem c_cycleInX {w : Wd} {h : Hp} {x : Nat} {X : XL} {σ : Sg} {m b : Int} (H : isX w h x X σ) (hσ : SgOk σ) (hm : i32 m) (hb : i32 b) : Ct w yX1_cycleIn (ws_ yX1_cycleIn cX1_cycleIn 4 (some FieldType.int)) 10 258 92 3718 [.ref x, jI m, jI b] h (fun v h' => cycK σ m b = 0 ∧ v = some (jI (cycNow (σ.ms m.toNat).1 b.toNat)) ∧ Ext h h') (fun E h' => exOf [sIOB, sIAE] (cycK σ m b) E ∧ Ext h h') := by
  have hX := H.1
  unfold i32 at hb
  have hm' := hm
  unfold cycK mchOk
  refine Ct.of (by decide) [some (.ref x), some (jI m), some (jI b), none] rfl (Nat.le_of_ble_eq_true rfl) (fun K C E N0 => ?_)
  refine k_aload_n C dX1_cycleIn_0 rfl ?_
  refine k_iload_n C dX1_cycleIn_1 rfl ?_
  refine kx_V C rfl mv_X1_162 dX1_cycleIn_2 ((c_machineAt H hσ hm')) (by assumption) rfl rfl (Nat.le_of_ble_eq_true rfl) ⟨(Nat.le_of_ble_eq_true rfl), (Nat.le_of_ble_eq_true rfl)⟩ (by omega) (fun v kk hp_ => ?_) (fun E1 h1 hx => x_pass C E N0 (by omega) ⟨by rw [decide_eq_false hx.1, hx.2.1]; exact ex1, hx.2.2⟩)
  obtain ⟨hin, rfl, rfl⟩ := hp_
  rw [decide_eq_true hin, if_pos rfl] at E
  obtain ⟨⟨k, hk, -⟩, G⟩ := H.2.2.2.2.1 m.toNat (by omega)
  have hok := hσ.2.2.1 m.toNat (by omega)
  refine k_astore_n C dX1_cycleIn_5 (Nat.le_of_ble_eq_true rfl) rfl ?_
  refine k_iload_n C dX1_cycleIn_6 rfl ?_
  refine k_iconst C dX1_cycleIn_7 ?_
  refine k_bipush C dX1_cycleIn_8 (by decide) ?_
  refine kx_S C rfl ms_X1_170 dX1_cycleIn_10 ((c_mustBeIn (by omega))) rfl rfl (Nat.le_of_ble_eq_true rfl) ⟨(Nat.le_of_ble_eq_true rfl), (Nat.le_of_ble_eq_true rfl)⟩ (by omega) (fun v kk hp_ => ?_) (fun E1 h1 hx => x_pass C E N0 (by omega) ⟨by rw [if_neg hx.1, hx.2.1]; exact ex2, hx.2.2⟩)
  obtain ⟨hin2, rfl, rfl⟩ := hp_
  rw [if_pos hin2] at E
  obtain ⟨S, hS⟩ : ∃ S : Nat, b = (S : Int) := ⟨b.toNat, by omega⟩
  subst hS
  rw [show ((S : Nat) : Int).toNat = S from rfl] at *
  have q1 := lk_le (show S ≤ 40 by omega)
  have q2 := lk_num
  refine k_aload_n C dX1_cycleIn_13 rfl ?_
  refine k_getN C fn_X1_166 dX1_cycleIn_14 (by assumption) (by rfl) ?_
  refine k_iload_n C dX1_cycleIn_17 rfl ?_
  refine kx_S C rfl ms_X1_294 dX1_cycleIn_18 ((c_cycleNow G hok.1 (by omega))) rfl rfl (Nat.le_of_ble_eq_true rfl) ⟨(Nat.le_of_ble_eq_true rfl), (Nat.le_of_ble_eq_true rfl)⟩ (by omega) (fun v k1 hp_ => ?_) (fun _ _ hx => hx.elim)
  obtain ⟨rfl, E1⟩ := hp_
  exact k_iret C E dX1_cycleIn_21 (by omega) ⟨rfl, rfl, E1⟩
def oneK (σ : Sg) (m : Int) : Nat := if mchOk σ m then 0 else 1
theorem c_backInX {w : Wd} {h : Hp} {x : Nat} {X : XL} {σ : Sg} {m : Int} (H : isX w h x X σ) (hσ : SgOk σ) (hm : i32 m) : Ct w yX1_backIn (ws_ yX1_backIn cX1_backIn 2 (some FieldType.int)) 11 281 992 7248 [.ref x, jI m] h (fun v h' => oneK σ m = 0 ∧ v = some (jI (backNow (σ.ms m.toNat).1)) ∧ Ext h h') (fun E h' => exOf [sIOB] (oneK σ m) E ∧ Ext h h') := by
  have hX := H.1
  unfold oneK mchOk
  refine Ct.of (by decide) [some (.ref x), some (jI m)] rfl (Nat.le_of_ble_eq_true rfl) (fun K C E N0 => ?_)
  refine k_aload_n C dX1_backIn_0 rfl ?_
  refine k_iload_n C dX1_backIn_1 rfl ?_
  refine kx_V C rfl mv_X1_162 dX1_backIn_2 ((c_machineAt H hσ hm)) (by assumption) rfl rfl (Nat.le_of_ble_eq_true rfl) ⟨(Nat.le_of_ble_eq_true rfl), (Nat.le_of_ble_eq_true rfl)⟩ (by omega) (fun v kk hp_ => ?_) (fun E1 h1 hx => x_pass C E N0 (by omega) ⟨by rw [decide_eq_false hx.1, hx.2.1]; exact ex1, hx.2.2⟩)
  obtain ⟨hin, rfl, rfl⟩ := hp_
  rw [decide_eq_true hin, if_pos rfl] at E
  obtain ⟨⟨k, hk, -⟩, G⟩ := H.2.2.2.2.1 m.toNat (by omega)
  have hok := hσ.2.2.1 m.toNat (by omega)
  refine k_getN C fn_X1_166 dX1_backIn_5 (by assumption) (by rfl) ?_
  refine kx_S C rfl ms_X1_298 dX1_backIn_8 ((c_backNow G hok.1)) rfl rfl (Nat.le_of_ble_eq_true rfl) ⟨(Nat.le_of_ble_eq_true rfl), (Nat.le_of_ble_eq_true rfl)⟩ (by omega) (fun v k1 hp_ => ?_) (fun _ _ hx => hx.elim)
  obtain ⟨rfl, E1⟩ := hp_
  exact k_iret C E dX1_backIn_11 (by omega) ⟨rfl, rfl, E1⟩
theorem c_gramInX {w : Wd} {h : Hp} {x : Nat} {X : XL} {σ : Sg} {m : Int} (H : isX w h x X σ) (hσ : SgOk σ) (hm : i32 m) : Ct w yX1_gramIn (ws_ yX1_gramIn cX1_gramIn 2 (some FieldType.int)) 12 305 13 1608 [.ref x, jI m] h (fun v h' => oneK σ m = 0 ∧ v = some (jI (gramNow (σ.ms m.toNat).1)) ∧ Ext h h') (fun E h' => exOf [sIOB] (oneK σ m) E ∧ Ext h h') := by
  have hX := H.1
  unfold oneK mchOk
  refine Ct.of (by decide) [some (.ref x), some (jI m)] rfl (Nat.le_of_ble_eq_true rfl) (fun K C E N0 => ?_)
  refine k_aload_n C dX1_gramIn_0 rfl ?_
  refine k_iload_n C dX1_gramIn_1 rfl ?_
  refine kx_V C rfl mv_X1_162 dX1_gramIn_2 ((c_machineAt H hσ hm)) (by assumption) rfl rfl (Nat.le_of_ble_eq_true rfl) ⟨(Nat.le_of_ble_eq_true rfl), (Nat.le_of_ble_eq_true rfl)⟩ (by omega) (fun v kk hp_ => ?_) (fun E1 h1 hx => x_pass C E N0 (by omega) ⟨by rw [decide_eq_false hx.1, hx.2.1]; exact ex1, hx.2.2⟩)
  obtain ⟨hin, rfl, rfl⟩ := hp_
  rw [decide_eq_true hin, if_pos rfl] at E
  obtain ⟨⟨k, hk, -⟩, G⟩ := H.2.2.2.2.1 m.toNat (by omega)
  have hok := hσ.2.2.1 m.toNat (by omega)
  refine k_getN C fn_X1_166 dX1_gramIn_5 (by assumption) (by rfl) ?_
  refine kx_S C rfl ms_X1_302 dX1_gramIn_8 ((c_gramNow G hok.1)) rfl rfl (Nat.le_of_ble_eq_true rfl) ⟨(Nat.le_of_ble_eq_true rfl), (Nat.le_of_ble_eq_true rfl)⟩ (by omega) (fun v k1 hp_ => ?_) (fun _ _ hx => hx.elim)
  obtain ⟨rfl, E1⟩ := hp_
  exact k_iret C E dX1_gramIn_11 (by omega) ⟨rfl, rfl, E1⟩
