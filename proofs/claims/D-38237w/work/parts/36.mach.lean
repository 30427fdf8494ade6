/-! ===== the component's machines ===== -/
set_option maxRecDepth 100000
/-- a machine: its table; by what kind it is decided; what the certificate tells -/
abbrev Mch : Type := Tb × Option Nat × Int × Int
def MchOk (m : Mch) : Prop := TbOk m.1 ∧ (∀ κ, m.2.1 = some κ → κ < 4) ∧ (-1000 ≤ m.2.2.1 ∧ m.2.2.1 ≤ 1000 ∧ -1000 ≤ m.2.2.2 ∧ m.2.2.2 ≤ 1000)
/-- at a; its table at t, the table's list at lst, the list's array at ar -/
def isMc (w : Wd) (h : Hp) (a t lst ar : Nat) (m : Mch) : Prop := (∃ k, h.2 a = some (.inl (3, [.ref t, .ref k, jI m.2.2.1, jI m.2.2.2])) ∧ isOp h k (m.2.1.map fun κ => w.ad (κ + 1))) ∧ isTb w h t lst ar m.1
theorem isMc.ext {w : Wd} {h h' : Hp} {a t lst ar : Nat} {m : Mch} (E : Ext h h') (H : isMc w h a t lst ar m) : isMc w h' a t lst ar m := by
  obtain ⟨⟨k, h1, h2⟩, h3⟩ := H
  exact ⟨⟨k, E.2 _ _ h1, E.2 _ _ h2⟩, h3.ext E⟩
theorem c_mcInit {w : Wd} {h : Hp} {a t lst ar : Nat} {T : Tb} (G : isTb w h t lst ar T) (ha : h.2 a = some (.inl (3, [.null, .null, jI 0, jI 0]))) : Ct w yX4_init (ws_ yX4_init cX4_init 2 none) 1 40 0 0 [.ref a, .ref t] h (fun v h' => v = none ∧ isMc w h' a t lst ar (T, none, -1, -1) ∧ Upd h h' [a]) NoX := by
  have hta : t ≠ a := ne_cel G.1 ha (ne_cls (by decide))
  refine Ct.of (by decide) [some (.ref a), some (.ref t)] rfl (Nat.le_of_ble_eq_true rfl) (fun K C E N0 => ?_)
  refine Wk.wf fun _ _ _ hc => ?_
  have e0 : h.2 (w.ad 0) = some (.inl (15, [.null])) := hc.1
  refine k_aload_n C dX4_init_0 rfl ?_
  refine k_objinit C rfl q718 q72 qobj dX4_init_1 ⟨(Nat.le_of_ble_eq_true rfl), (Nat.le_of_ble_eq_true rfl)⟩ ?_
  refine k_aload_n C dX4_init_4 rfl ?_
  refine kx_S C rfl ms_X4_9 dX4_init_5 (c_opEmpty) rfl rfl (Nat.le_of_ble_eq_true rfl) ⟨(Nat.le_of_ble_eq_true rfl), (Nat.le_of_ble_eq_true rfl)⟩ (by omega) (fun v kk hp_ => ?_) (fun _ _ hx => hx.elim)
  obtain ⟨rfl, rfl⟩ := hp_
  refine k_put C fg_X4_15 ft_3_1 dX4_init_8 (by assumption) rfl rfl rfl (fun h1 P1 => ?_)
  have a1 := P1.2.1
  refine k_aload_n C dX4_init_11 rfl ?_
  refine k_iconst C dX4_init_12 ?_
  refine k_put C fg_X4_21 ft_3_2 dX4_init_13 (by assumption) rfl rfl rfl (fun h2 P2 => ?_)
  have a2 := P2.2.1
  refine k_aload_n C dX4_init_16 rfl ?_
  refine k_iconst C dX4_init_17 ?_
  refine k_put C fg_X4_25 ft_3_3 dX4_init_18 (by assumption) rfl rfl rfl (fun h3 P3 => ?_)
  have a3 := P3.2.1
  refine k_aload_n C dX4_init_21 rfl ?_
  refine k_aload_n C dX4_init_22 rfl ?_
  refine k_putF C fg_X4_28 ft_3_0 rfl (fun r hr => by cases hr; rfl) dX4_init_23 (by assumption) (Or.inl rfl) rfl rfl (fun h4 P4 => ?_)
  have Q := ((P1.trans P2).trans P3).trans P4
  have G4 : isTb w h4 t lst ar T := by
    obtain ⟨g1, f, ⟨g2, g3, g4⟩, g5⟩ := G
    refine ⟨Q.2.2 _ _ g1 hta, f, ⟨Q.2.2 _ _ g2 (ne_cel g2 ha (ne_cls (by decide))), Q.2.2 _ _ g3 (ne_cel g3 ha ne_oa), g4⟩, fun k k0 k1 => ?_⟩
    obtain ⟨o, e1, e2⟩ := g5 k k0 k1
    exact ⟨o, e1, e2.put Q (fun x hx => by rw [ha] at hx; cases hx; exact ⟨by decide, by decide⟩)⟩
  exact k_vret C E dX4_init_26 (by omega) ⟨rfl, ⟨⟨w.ad 0, Q.2.1, Q.2.2 _ _ e0 (ne_cel e0 ha (ne_cls (by decide)))⟩, G4⟩, Q.upd⟩
theorem c_isDecided {w : Wd} {h : Hp} {a t lst ar : Nat} {m : Mch} (H : isMc w h a t lst ar m) : Ct w yX4_isDecided (ws_ yX4_isDecided cX4_isDecided 1 (some FieldType.boolean)) 1 20 0 0 [.ref a] h (fun v h' => v = some (jI (b2i m.2.1.isSome)) ∧ h' = h) NoX := by
  obtain ⟨⟨k, h1, h2⟩, h3⟩ := H
  have h2' := h2
  unfold isOp at h2'
  refine Ct.of (by decide) [some (.ref a)] rfl (Nat.le_of_ble_eq_true rfl) (fun K C E N0 => ?_)
  refine k_aload_n C dX4_isDecided_0 rfl ?_
  refine k_get C fg_X4_15 dX4_isDecided_1 (by assumption) (by rfl) ?_
  refine kx_V C rfl mv_X4_32 dX4_isDecided_4 ((c_isPresent h2)) (by assumption) rfl rfl (Nat.le_of_ble_eq_true rfl) ⟨(Nat.le_of_ble_eq_true rfl), (Nat.le_of_ble_eq_true rfl)⟩ (by omega) (fun v kk hp_ => ?_) (fun _ _ hx => hx.elim)
  obtain ⟨rfl, rfl⟩ := hp_
  rw [Option.isSome_map]
  exact k_zret (b := m.2.1.isSome) C E dX4_isDecided_7 (by omega) ⟨rfl, rfl⟩
theorem Cst.ad_inj {w : Wd} {h : Hp} (hc : Cst w h) {i j : Nat} (hi : i < 4) (hj : j < 4) (e : w.ad (i + 1) = w.ad (j + 1)) : i = j := by
  obtain ⟨-, c1, c2, c3, c4, -⟩ := hc
  have k : ∀ i, i < 4 → ∃ z, h.2 (w.ad (i + 1)) = some (.inl (17 + i, z)) := fun i hi => by
    obtain rfl | rfl | rfl | rfl : i = 0 ∨ i = 1 ∨ i = 2 ∨ i = 3 := by omega
    · exact ⟨_, c1⟩
    · exact ⟨_, c2⟩
    · exact ⟨_, c3⟩
    · exact ⟨_, c4⟩
  obtain ⟨zi, ei⟩ := k i hi
  obtain ⟨zj, ej⟩ := k j hj
  rw [e, ej] at ei
  have := (Prod.mk.inj (Sum.inl.inj (Option.some.inj ei))).1
  omega
theorem Cst.kind {w : Wd} {h : Hp} (hc : Cst w h) {i : Nat} (hi : i < 4) : h.2 (w.ad (i + 1)) = some (.inl (17 + i, [jI (i : Nat)])) := by
  obtain ⟨-, c1, c2, c3, c4, -⟩ := hc
  obtain rfl | rfl | rfl | rfl : i = 0 ∨ i = 1 ∨ i = 2 ∨ i = 3 := by omega
  · exact c1
  · exact c2
  · exact c3
  · exact c4
theorem c_isDecidedBy {w : Wd} {h : Hp} {a t lst ar j : Nat} {m : Mch} (H : isMc w h a t lst ar m) (hm : MchOk m) (hj : j < 4) : Ct w yX4_isDecidedBy (ws_ yX4_isDecidedBy cX4_isDecidedBy 2 (some FieldType.boolean)) 1 20 0 0 [.ref a, .ref (w.ad (j + 1))] h (fun v h' => v = some (jI (b2i (decide (m.2.1 = some j)))) ∧ h' = h) NoX := by
  obtain ⟨⟨k, h1, h2⟩, h3⟩ := H
  have h2' := h2
  unfold isOp at h2'
  refine Ct.of (by decide) [some (.ref a), some (.ref (w.ad (j + 1)))] rfl (Nat.le_of_ble_eq_true rfl) (fun K C E N0 => ?_)
  refine Wk.wf fun _ _ _ hc => ?_
  refine k_aload_n C dX4_isDecidedBy_0 rfl ?_
  refine k_get C fg_X4_15 dX4_isDecidedBy_1 (by assumption) (by rfl) ?_
  refine kx_V C rfl mv_X4_32 dX4_isDecidedBy_4 ((c_isPresent h2)) (by assumption) rfl rfl (Nat.le_of_ble_eq_true rfl) ⟨(Nat.le_of_ble_eq_true rfl), (Nat.le_of_ble_eq_true rfl)⟩ (by omega) (fun v kk hp_ => ?_) (fun _ _ hx => hx.elim)
  obtain ⟨rfl, rfl⟩ := hp_
  cases hk : m.2.1 with
  | none =>
    refine k_ifeq_b C dX4_isDecidedBy_7 (tgt := 25) (by decide) (fun g1 => ?_) (fun g1 => by cases g1)
    refine k_iconst C dX4_isDecidedBy_25 ?_
    exact k_zret (b := false) C E dX4_isDecidedBy_26 (by omega) ⟨by rw [hk]; rfl, rfl⟩
  | some κ =>
    rw [hk] at h2
    refine k_ifeq_b C dX4_isDecidedBy_7 (tgt := 25) (by decide) (fun g1 => by cases g1) (fun g1 => ?_)
    refine k_aload_n C dX4_isDecidedBy_10 rfl ?_
    refine k_get C fg_X4_15 dX4_isDecidedBy_11 (by assumption) (by rfl) ?_
    refine kx_V C rfl mv_X4_36 dX4_isDecidedBy_14 ((c_opGet h2)) (by assumption) rfl rfl (Nat.le_of_ble_eq_true rfl) ⟨(Nat.le_of_ble_eq_true rfl), (Nat.le_of_ble_eq_true rfl)⟩ (by omega) (fun v kk hp_ => ?_) (fun _ _ hx => hx.elim)
    obtain ⟨rfl, rfl⟩ := hp_
    refine k_aload_n C dX4_isDecidedBy_17 rfl ?_
    have hκ := hm.2.1 κ hk
    refine k_acmp_ne C dX4_isDecidedBy_18 (tgt := 25) (by decide) (fun g2 => ?_) (fun g3 => ?_)
    · refine k_iconst C dX4_isDecidedBy_25 ?_
      exact k_zret (b := false) C E dX4_isDecidedBy_26 (by omega) ⟨by rw [hk, decide_eq_false (fun z => g2 (by have := Option.some.inj z; subst this; rfl))], rfl⟩
    · refine k_iconst C dX4_isDecidedBy_21 ?_
      refine k_goto C dX4_isDecidedBy_22 (tgt := 26) (by decide) ?_
      exact k_zret (b := true) C E dX4_isDecidedBy_26 (by omega) ⟨by rw [hk, decide_eq_true (congrArg some (hc.ad_inj hκ hj g3))], rfl⟩
/-- an object of class 3 put anew: the machine's table stays -/
theorem isTb.put3 {w : Wd} {h h' : Hp} {a t lst ar : Nat} {T : Tb} {fs : List Value} {c : Cel} (G : isTb w h t lst ar T) (ha : h.2 a = some (.inl (3, fs))) (P : Put h h' a c) : isTb w h' t lst ar T := by
  obtain ⟨g1, f, ⟨g2, g3, g4⟩, g5⟩ := G
  refine ⟨P.2.2 _ _ g1 (ne_cel g1 ha (ne_cls (by decide))), f, ⟨P.2.2 _ _ g2 (ne_cel g2 ha (ne_cls (by decide))), P.2.2 _ _ g3 (ne_cel g3 ha ne_oa), g4⟩, fun k k0 k1 => ?_⟩
  obtain ⟨o, e1, e2⟩ := g5 k k0 k1
  exact ⟨o, e1, e2.put P (fun x hx => by rw [ha] at hx; cases hx; exact ⟨show (3 : Nat) ≠ 15 by decide, show (3 : Nat) ≠ 6 by decide⟩)⟩
theorem c_decideM {w : Wd} {h : Hp} {a t lst ar j : Nat} {m : Mch} {x y : Int} (H : isMc w h a t lst ar m) : Ct w yX4_decide (ws_ yX4_decide cX4_decide 4 none) 3 81 1 1 [.ref a, .ref (w.ad (j + 1)), jI x, jI y] h (fun v h' => v = none ∧ isMc w h' a t lst ar (m.1, some j, x, y) ∧ Upd h h' [a]) NoX := by
  obtain ⟨⟨k, h1, h2⟩, h3⟩ := H
  refine Ct.of (by decide) [some (.ref a), some (.ref (w.ad (j + 1))), some (jI x), some (jI y)] rfl (Nat.le_of_ble_eq_true rfl) (fun K C E N0 => ?_)
  refine k_aload_n C dX4_decide_0 rfl ?_
  refine k_aload_n C dX4_decide_1 rfl ?_
  refine kx_S C rfl ms_X4_40 dX4_decide_2 (c_opOf) rfl rfl (Nat.le_of_ble_eq_true rfl) ⟨(Nat.le_of_ble_eq_true rfl), (Nat.le_of_ble_eq_true rfl)⟩ (by omega) (fun v g1 hp_ => ?_) (fun _ _ hx => hx.elim)
  obtain ⟨q, rfl, N1⟩ := hp_
  have a1 := N1.2.2.1.2 _ _ h1
  have qa : q ≠ a := Ne.symm (N1.ne h1)
  refine k_put C fg_X4_15 ft_3_1 dX4_decide_5 (by assumption) rfl rfl rfl (fun g2 P2 => ?_)
  have a2 := P2.2.1
  refine k_aload_n C dX4_decide_8 rfl ?_
  refine k_iload_n C dX4_decide_9 rfl ?_
  refine k_put C fg_X4_21 ft_3_2 dX4_decide_10 (by assumption) rfl rfl rfl (fun g3 P3 => ?_)
  have a3 := P3.2.1
  refine k_aload_n C dX4_decide_13 rfl ?_
  refine k_iload_n C dX4_decide_14 rfl ?_
  refine k_put C fg_X4_25 ft_3_3 dX4_decide_15 (by assumption) rfl rfl rfl (fun g4 P4 => ?_)
  have Q := (P2.trans P3).trans P4
  exact k_vret C E dX4_decide_18 (by omega) ⟨rfl, ⟨⟨q, Q.2.1, Q.2.2 _ _ N1.2.1 qa⟩, (h3.ext N1.2.2.1).put3 a1 Q⟩, (N1.2.2.1.upd [a]).trans Q.upd (fun x hx => Or.inl hx)⟩
theorem c_openM {w : Wd} {h : Hp} {a t lst ar : Nat} {m : Mch} (H : isMc w h a t lst ar m) : Ct w yX4_open (ws_ yX4_open cX4_open 2 (some FieldType.boolean)) 2 40 0 0 [.ref a] h (fun v h' => v = some (jI (b2i m.2.1.isSome)) ∧ isMc w h' a t lst ar (m.1, none, -1, -1) ∧ Upd h h' [a]) NoX := by
  have H0 := H
  obtain ⟨⟨k, h1, h2⟩, h3⟩ := H
  refine Ct.of (by decide) [some (.ref a), none] rfl (Nat.le_of_ble_eq_true rfl) (fun K C E N0 => ?_)
  refine Wk.wf fun _ _ _ hc => ?_
  have e0 : h.2 (w.ad 0) = some (.inl (15, [.null])) := hc.1
  refine k_aload_n C dX4_open_0 rfl ?_
  refine kx_V C rfl mv_X4_44 dX4_open_1 ((c_isDecided H0)) (by assumption) rfl rfl (Nat.le_of_ble_eq_true rfl) ⟨(Nat.le_of_ble_eq_true rfl), (Nat.le_of_ble_eq_true rfl)⟩ (by omega) (fun v kk hp_ => ?_) (fun _ _ hx => hx.elim)
  obtain ⟨rfl, rfl⟩ := hp_
  refine k_istore_n C dX4_open_4 (Nat.le_of_ble_eq_true rfl) rfl ?_
  refine k_aload_n C dX4_open_5 rfl ?_
  refine kx_S C rfl ms_X4_9 dX4_open_6 (c_opEmpty) rfl rfl (Nat.le_of_ble_eq_true rfl) ⟨(Nat.le_of_ble_eq_true rfl), (Nat.le_of_ble_eq_true rfl)⟩ (by omega) (fun v kk hp_ => ?_) (fun _ _ hx => hx.elim)
  obtain ⟨rfl, rfl⟩ := hp_
  refine k_put C fg_X4_15 ft_3_1 dX4_open_9 (by assumption) rfl rfl rfl (fun g2 P2 => ?_)
  have a2 := P2.2.1
  refine k_aload_n C dX4_open_12 rfl ?_
  refine k_iconst C dX4_open_13 ?_
  refine k_put C fg_X4_21 ft_3_2 dX4_open_14 (by assumption) rfl rfl rfl (fun g3 P3 => ?_)
  have a3 := P3.2.1
  refine k_aload_n C dX4_open_17 rfl ?_
  refine k_iconst C dX4_open_18 ?_
  refine k_put C fg_X4_25 ft_3_3 dX4_open_19 (by assumption) rfl rfl rfl (fun g4 P4 => ?_)
  have Q := (P2.trans P3).trans P4
  refine k_iload_n C dX4_open_22 rfl ?_
  exact k_zret (b := m.2.1.isSome) C E dX4_open_23 (by omega) ⟨rfl, ⟨⟨w.ad 0, Q.2.1, Q.2.2 _ _ e0 (ne_cel e0 h1 (ne_cls (by decide)))⟩, h3.put3 h1 Q⟩, Q.upd⟩
/-! ### what is asked of one machine -/
theorem c_walked {w : Wd} {h : Hp} {a t lst ar R : Nat} {m : Mch} (H : isMc w h a t lst ar m) (hm : MchOk m) (hR : R < 1000) : Ct w yX1_walked (ws_ yX1_walked cX1_walked 2 (some (FieldType.object "Haltingale$Walker"))) 7 148 2 (9 + 2 * R) [.ref a, jI (R : Nat)] h (fun v h' => ∃ q tp, v = some (.ref q) ∧ h.2 q = none ∧ h.2 tp = none ∧ isWk h' q t tp R (runN m.1 R c0) ∧ Ext h h') NoX := by
  obtain ⟨⟨k, h1, h2⟩, h3⟩ := H
  refine Ct.of (by decide) [some (.ref a), some (jI (R : Nat))] rfl (Nat.le_of_ble_eq_true rfl) (fun K C E N0 => ?_)
  refine k_new C nw_X1_3 dX1_walked_0 (by omega) (fun q g1 N1 => ?_)
  have q1 := N1.2.1
  have a1 := N1.2.2.1.2 _ _ h1
  refine k_dup C dX1_walked_3 rfl ?_
  refine k_aload_n C dX1_walked_4 rfl ?_
  refine k_getN C fn_X1_166 dX1_walked_5 (by assumption) (by rfl) ?_
  refine k_iload_n C dX1_walked_8 rfl ?_
  refine kx_I C rfl mi_X1_5 dX1_walked_9 ((c_wkInit hR q1)) rfl rfl (Nat.le_of_ble_eq_true rfl) ⟨(Nat.le_of_ble_eq_true rfl), (Nat.le_of_ble_eq_true rfl)⟩ (by omega) (fun v g2 hp_ => ?_) (fun _ _ hx => hx.elim)
  obtain ⟨rfl, tp, t2, W2, U2⟩ := hp_
  have W21 := W2.1
  have M := wk_made N1 t2 U2 ((Ext.refl g2).upd [q, tp])
  refine k_iload_n C dX1_walked_12 rfl ?_
  refine kx_V C rfl mv_X1_9 dX1_walked_13 ((c_walk (m := R) hR W2 (h3.ext M.1) hm.1 c0_ok (by show 0 + R ≤ R; omega))) (by assumption) rfl rfl (Nat.le_of_ble_eq_true rfl) ⟨(Nat.le_of_ble_eq_true rfl), (Nat.le_of_ble_eq_true rfl)⟩ (by omega) (fun v g3 hp_ => ?_) (fun _ _ hx => hx.elim)
  obtain ⟨rfl, U3, W3⟩ := hp_
  have M3 := wk_made N1 t2 U2 U3
  exact k_aret C (Or.inl ⟨_, rfl⟩) E dX1_walked_16 (by omega) ⟨q, tp, rfl, N1.1, M.2.2.2, W3, M3.2.1⟩
def waysC (T : Tb) (c : Cf) : Int := if hangB T c then 1 + 4 * reachN T else 0
theorem reachN_b {T : Tb} (hT : TbOk T) : 0 ≤ reachN T ∧ reachN T ≤ 4 := by
  have := mostN_b hT (2 * T.1) (Nat.le_refl _)
  have := hT.2.1
  unfold reachN
  omega
theorem c_waysOf {w : Wd} {h : Hp} {q t tp R lst ar : Nat} {T : Tb} {c : Cf} (hR : R < 1000) (H : isWk h q t tp R c) (G : isTb w h t lst ar T) (hT : TbOk T) (hc : CfOk T c) (hn : c.n ≤ R) : Ct w yX1_waysOf (ws_ yX1_waysOf cX1_waysOf 1 (some FieldType.int)) 5 106 0 0 [.ref q] h (fun v h' => v = some (jI (waysC T c)) ∧ h' = h) NoX := by
  have H1 := H.1
  have G1 := G.1
  refine Ct.of (by decide) [some (.ref q)] rfl (Nat.le_of_ble_eq_true rfl) (fun K C E N0 => ?_)
  refine k_aload_n C dX1_waysOf_0 rfl ?_
  refine kx_V C rfl mv_X1_215 dX1_waysOf_1 ((c_hangs hR H G hT hc hn)) (by assumption) rfl rfl (Nat.le_of_ble_eq_true rfl) ⟨(Nat.le_of_ble_eq_true rfl), (Nat.le_of_ble_eq_true rfl)⟩ (by omega) (fun v kk hp_ => ?_) (fun _ _ hx => hx.elim)
  obtain ⟨rfl, rfl⟩ := hp_
  refine k_ifeq_b C dX1_waysOf_4 (tgt := 21) (by decide) (fun g1 => ?_) (fun g2 => ?_)
  · refine k_iconst C dX1_waysOf_21 ?_
    rw [show (0 : Int) = waysC T c by unfold waysC; rw [g1]; rfl]
    exact k_iret C E dX1_waysOf_22 (by omega) ⟨rfl, rfl⟩
  · refine k_iconst C dX1_waysOf_7 ?_
    refine k_iconst C dX1_waysOf_8 ?_
    refine k_aload_n C dX1_waysOf_9 rfl ?_
    refine k_getN C fn_X1_218 dX1_waysOf_10 (by assumption) (by rfl) ?_
    refine kx_V C rfl mv_X1_219 dX1_waysOf_13 ((c_reachable G hT)) (by assumption) rfl rfl (Nat.le_of_ble_eq_true rfl) ⟨(Nat.le_of_ble_eq_true rfl), (Nat.le_of_ble_eq_true rfl)⟩ (by omega) (fun v kk hp_ => ?_) (fun _ _ hx => hx.elim)
    obtain ⟨rfl, rfl⟩ := hp_
    refine k_imul C dX1_waysOf_16 ?_
    refine k_iadd C dX1_waysOf_17 ?_
    refine k_goto C dX1_waysOf_18 (tgt := 22) (by decide) ?_
    rw [show 1 + 4 * reachN T = waysC T c by unfold waysC; rw [g2]; rfl]
    exact k_iret C E dX1_waysOf_22 (by omega) ⟨rfl, rfl⟩
def scoreC (T : Tb) (c : Cf) (what : Int) : Int := if stopB T c then (if what = 6 then onesC c else if what = 7 then c.n else if 0 ≤ c.pl then c.pl else -c.pl) else -1
theorem c_scoreOf {w : Wd} {h : Hp} {q t tp R lst ar : Nat} {T : Tb} {c : Cf} {what : Int} (hw : 0 ≤ what ∧ what ≤ 100) (hR : R < 1000) (H : isWk h q t tp R c) (G : isTb w h t lst ar T) (hT : TbOk T) (hc : CfOk T c) (hn : c.n ≤ R) : Ct w yX1_scoreOf (ws_ yX1_scoreOf cX1_scoreOf 2 (some FieldType.int)) 1 40 0 0 [.ref q, jI what] h (fun v h' => v = some (jI (scoreC T c what)) ∧ h' = h) NoX := by
  have H1 := H.1
  obtain ⟨-, ⟨b1, b2, b3, b4, b5, b6⟩, -⟩ := id hc
  refine Ct.of (by decide) [some (.ref q), some (jI what)] rfl (Nat.le_of_ble_eq_true rfl) (fun K C E N0 => ?_)
  generalize hres : scoreC T c what = res at *
  unfold scoreC stopB at hres
  refine k_aload_n C dX1_scoreOf_0 rfl ?_
  refine kx_V C rfl mv_X1_305 dX1_scoreOf_1 ((c_hasStopped H G hT hc)) (by assumption) rfl rfl (Nat.le_of_ble_eq_true rfl) ⟨(Nat.le_of_ble_eq_true rfl), (Nat.le_of_ble_eq_true rfl)⟩ (by omega) (fun v kk hp_ => ?_) (fun _ _ hx => hx.elim)
  obtain ⟨rfl, rfl⟩ := hp_
  refine k_ifne_b C dX1_scoreOf_4 (tgt := 9) (by decide) (fun g1 => ?_) (fun g2 => ?_)
  · rw [if_pos g1] at hres
    refine k_iload_n C dX1_scoreOf_9 rfl ?_
    refine k_bipush C dX1_scoreOf_10 (by decide) ?_
    refine k_icmp_ne C dX1_scoreOf_12 (tgt := 22) (by decide) (by omega) (fun g3 => ?_) (fun g4 => ?_)
    · rw [if_neg g3] at hres
      refine k_iload_n C dX1_scoreOf_22 rfl ?_
      refine k_bipush C dX1_scoreOf_23 (by decide) ?_
      refine k_icmp_ne C dX1_scoreOf_25 (tgt := 35) (by decide) (by omega) (fun g5 => ?_) (fun g6 => ?_)
      · rw [if_neg g5] at hres
        refine k_aload_n C dX1_scoreOf_35 rfl ?_
        refine k_getN C fn_X1_18 dX1_scoreOf_36 (by assumption) (by rfl) ?_
        refine k_abs C rfl q430 dX1_scoreOf_39 (by omega) ⟨(Nat.le_of_ble_eq_true rfl), (Nat.le_of_ble_eq_true rfl)⟩ (by omega) ?_
        rw [hres]
        exact k_iret C E dX1_scoreOf_42 (by omega) ⟨rfl, rfl⟩
      · rw [if_pos g6] at hres
        refine k_aload_n C dX1_scoreOf_28 rfl ?_
        refine k_getN C fn_X1_39 dX1_scoreOf_29 (by assumption) (by rfl) ?_
        refine k_goto C dX1_scoreOf_32 (tgt := 42) (by decide) ?_
        rw [hres]
        exact k_iret C E dX1_scoreOf_42 (by omega) ⟨rfl, rfl⟩
    · rw [if_pos g4] at hres
      refine k_aload_n C dX1_scoreOf_15 rfl ?_
      refine kx_V C rfl mv_X1_328 dX1_scoreOf_16 ((c_ones hR H hc hn)) (by assumption) rfl rfl (Nat.le_of_ble_eq_true rfl) ⟨(Nat.le_of_ble_eq_true rfl), (Nat.le_of_ble_eq_true rfl)⟩ (by omega) (fun v kk hp_ => ?_) (fun _ _ hx => hx.elim)
      obtain ⟨rfl, rfl⟩ := hp_
      refine k_goto C dX1_scoreOf_19 (tgt := 42) (by decide) ?_
      rw [hres]
      exact k_iret C E dX1_scoreOf_42 (by omega) ⟨rfl, rfl⟩
  · rw [if_neg (by rw [g2]; decide)] at hres
    refine k_iconst C dX1_scoreOf_7 ?_
    rw [hres]
    exact k_iret C E dX1_scoreOf_8 (by omega) ⟨rfl, rfl⟩
/-- the kind's number; -1 without one -/
def kindN (m : Mch) : Int := match m.2.1 with
  | none => -1
  | some κ => (κ : Int)
def machC (m : Mch) (c : Cf) (what : Int) : Int := if what = 0 then m.1.1 else if what = 1 then cntE m.1 (2 * m.1.1) else if what = 2 then kindN m else if what = 3 then m.2.2.1 else if what = 4 then m.2.2.2 else if what = 5 then waysC m.1 c else scoreC m.1 c what
theorem c_machineNow {w : Wd} {h : Hp} {a q t tp R lst ar : Nat} {m : Mch} {c : Cf} {what : Int} (hw : 0 ≤ what ∧ what ≤ 8) (hR : R < 1000) (M : isMc w h a t lst ar m) (hm : MchOk m) (H : isWk h q t tp R c) (hc : CfOk m.1 c) (hn : c.n ≤ R) : Ct w yX1_machineNow (ws_ yX1_machineNow cX1_machineNow 3 (some FieldType.int)) 6 126 0 0 [.ref a, .ref q, jI what] h (fun v h' => v = some (jI (machC m c what)) ∧ h' = h) NoX := by
  have M0 := M
  obtain ⟨⟨k, h1, h2⟩, G⟩ := M
  have h2' := h2
  unfold isOp at h2'
  have G1 := G.1
  have H1 := H.1
  refine Ct.of (by decide) [some (.ref a), some (.ref q), some (jI what)] rfl (Nat.le_of_ble_eq_true rfl) (fun K C E N0 => ?_)
  refine Wk.wf fun _ _ _ hcst => ?_
  refine k_iload_n C dX1_machineNow_0 rfl ?_
  by_cases e : what ≤ 5
  · have hs : what = 0 ∨ what = 1 ∨ what = 2 ∨ what = 3 ∨ what = 4 ∨ what = 5 := by omega
    rcases hs with e | e | e | e | e | e <;> subst e
    · refine k_tswIn (x := 0) (tgt := 40) C dX1_machineNow_1 (by decide) (by decide) (by decide) rfl (by decide) ?_
      refine k_aload_n C dX1_machineNow_40 rfl ?_
      refine k_getN C fn_X1_166 dX1_machineNow_41 (by assumption) (by rfl) ?_
      refine k_getN C fn_X1_73 dX1_machineNow_44 (by assumption) (by rfl) ?_
      exact k_iret C E dX1_machineNow_47 (by omega) ⟨rfl, rfl⟩
    · refine k_tswIn (x := 1) (tgt := 48) C dX1_machineNow_1 (by decide) (by decide) (by decide) rfl (by decide) ?_
      refine k_aload_n C dX1_machineNow_48 rfl ?_
      refine k_getN C fn_X1_166 dX1_machineNow_49 (by assumption) (by rfl) ?_
      refine kx_V C rfl mv_X1_213 dX1_machineNow_52 ((c_empty G hm.1.2.1)) (by assumption) rfl rfl (Nat.le_of_ble_eq_true rfl) ⟨(Nat.le_of_ble_eq_true rfl), (Nat.le_of_ble_eq_true rfl)⟩ (by omega) (fun v kk hp_ => ?_) (fun _ _ hx => hx.elim)
      obtain ⟨rfl, rfl⟩ := hp_
      exact k_iret C E dX1_machineNow_55 (by omega) ⟨rfl, rfl⟩
    · refine k_tswIn (x := 2) (tgt := 56) C dX1_machineNow_1 (by decide) (by decide) (by decide) rfl (by decide) ?_
      refine k_aload_n C dX1_machineNow_56 rfl ?_
      refine kx_V C rfl mv_X1_276 dX1_machineNow_57 ((c_isDecided M0)) (by assumption) rfl rfl (Nat.le_of_ble_eq_true rfl) ⟨(Nat.le_of_ble_eq_true rfl), (Nat.le_of_ble_eq_true rfl)⟩ (by omega) (fun v kk hp_ => ?_) (fun _ _ hx => hx.elim)
      obtain ⟨rfl, rfl⟩ := hp_
      cases hk : m.2.1 with
      | none =>
        refine k_ifeq_b C dX1_machineNow_60 (tgt := 79) (by decide) (fun g1 => ?_) (fun g1 => by cases g1)
        refine k_iconst C dX1_machineNow_79 ?_
        rw [show (-1 : Int) = machC m c 2 by unfold machC kindN; rw [hk]; rfl]
        exact k_iret C E dX1_machineNow_80 (by omega) ⟨rfl, rfl⟩
      | some κ =>
        rw [hk] at h2
        have hκ := hm.2.1 κ hk
        have hkc := hcst.kind hκ
        refine k_ifeq_b C dX1_machineNow_60 (tgt := 79) (by decide) (fun g1 => by cases g1) (fun g1 => ?_)
        refine k_aload_n C dX1_machineNow_63 rfl ?_
        refine k_getN C fn_X1_308 dX1_machineNow_64 (by assumption) (by rfl) ?_
        refine kx_V C rfl mv_X1_104 dX1_machineNow_67 ((c_opGet h2)) (by assumption) rfl rfl (Nat.le_of_ble_eq_true rfl) ⟨(Nat.le_of_ble_eq_true rfl), (Nat.le_of_ble_eq_true rfl)⟩ (by omega) (fun v kk hp_ => ?_) (fun _ _ hx => hx.elim)
        obtain ⟨rfl, rfl⟩ := hp_
        have er : (κ : Int) = machC m c 2 := by unfold machC kindN; rw [hk]; rfl
        obtain rfl | rfl | rfl | rfl : κ = 0 ∨ κ = 1 ∨ κ = 2 ∨ κ = 3 := by omega
        · refine k_castO C ck_X1_255_17 dX1_machineNow_70 (by assumption) ?_
          refine kx_U C rfl mc_X1_312_17 q54 dX1_machineNow_73 ((c_ord17 hkc)) (by assumption) rfl rfl (Nat.le_of_ble_eq_true rfl) ⟨(Nat.le_of_ble_eq_true rfl), (Nat.le_of_ble_eq_true rfl)⟩ (by omega) (fun v kk hp_ => ?_) (fun _ _ hx => hx.elim)
          obtain ⟨rfl, rfl⟩ := hp_
          refine k_goto C dX1_machineNow_76 (tgt := 80) (by decide) ?_
          rw [er]
          exact k_iret C E dX1_machineNow_80 (by omega) ⟨rfl, rfl⟩
        · refine k_castO C ck_X1_255_18 dX1_machineNow_70 (by assumption) ?_
          refine kx_U C rfl mc_X1_312_18 q54 dX1_machineNow_73 ((c_ord18 hkc)) (by assumption) rfl rfl (Nat.le_of_ble_eq_true rfl) ⟨(Nat.le_of_ble_eq_true rfl), (Nat.le_of_ble_eq_true rfl)⟩ (by omega) (fun v kk hp_ => ?_) (fun _ _ hx => hx.elim)
          obtain ⟨rfl, rfl⟩ := hp_
          refine k_goto C dX1_machineNow_76 (tgt := 80) (by decide) ?_
          rw [er]
          exact k_iret C E dX1_machineNow_80 (by omega) ⟨rfl, rfl⟩
        · refine k_castO C ck_X1_255_19 dX1_machineNow_70 (by assumption) ?_
          refine kx_U C rfl mc_X1_312_19 q54 dX1_machineNow_73 ((c_ord19 hkc)) (by assumption) rfl rfl (Nat.le_of_ble_eq_true rfl) ⟨(Nat.le_of_ble_eq_true rfl), (Nat.le_of_ble_eq_true rfl)⟩ (by omega) (fun v kk hp_ => ?_) (fun _ _ hx => hx.elim)
          obtain ⟨rfl, rfl⟩ := hp_
          refine k_goto C dX1_machineNow_76 (tgt := 80) (by decide) ?_
          rw [er]
          exact k_iret C E dX1_machineNow_80 (by omega) ⟨rfl, rfl⟩
        · refine k_castO C ck_X1_255_20 dX1_machineNow_70 (by assumption) ?_
          refine kx_U C rfl mc_X1_312_20 q54 dX1_machineNow_73 ((c_ord20 hkc)) (by assumption) rfl rfl (Nat.le_of_ble_eq_true rfl) ⟨(Nat.le_of_ble_eq_true rfl), (Nat.le_of_ble_eq_true rfl)⟩ (by omega) (fun v kk hp_ => ?_) (fun _ _ hx => hx.elim)
          obtain ⟨rfl, rfl⟩ := hp_
          refine k_goto C dX1_machineNow_76 (tgt := 80) (by decide) ?_
          rw [er]
          exact k_iret C E dX1_machineNow_80 (by omega) ⟨rfl, rfl⟩
    · refine k_tswIn (x := 3) (tgt := 81) C dX1_machineNow_1 (by decide) (by decide) (by decide) rfl (by decide) ?_
      refine k_aload_n C dX1_machineNow_81 rfl ?_
      refine k_getN C fn_X1_334 dX1_machineNow_82 (by assumption) (by rfl) ?_
      exact k_iret C E dX1_machineNow_85 (by omega) ⟨rfl, rfl⟩
    · refine k_tswIn (x := 4) (tgt := 86) C dX1_machineNow_1 (by decide) (by decide) (by decide) rfl (by decide) ?_
      refine k_aload_n C dX1_machineNow_86 rfl ?_
      refine k_getN C fn_X1_337 dX1_machineNow_87 (by assumption) (by rfl) ?_
      exact k_iret C E dX1_machineNow_90 (by omega) ⟨rfl, rfl⟩
    · refine k_tswIn (x := 5) (tgt := 91) C dX1_machineNow_1 (by decide) (by decide) (by decide) rfl (by decide) ?_
      refine k_aload_n C dX1_machineNow_91 rfl ?_
      refine kx_S C rfl ms_X1_226 dX1_machineNow_92 ((c_waysOf hR H G hm.1 hc hn)) rfl rfl (Nat.le_of_ble_eq_true rfl) ⟨(Nat.le_of_ble_eq_true rfl), (Nat.le_of_ble_eq_true rfl)⟩ (by omega) (fun v kk hp_ => ?_) (fun _ _ hx => hx.elim)
      obtain ⟨rfl, rfl⟩ := hp_
      exact k_iret C E dX1_machineNow_95 (by omega) ⟨rfl, rfl⟩
  · refine k_tswOut C dX1_machineNow_1 (tgt := 96) (by omega) (by omega) (by decide) ?_
    refine k_aload_n C dX1_machineNow_96 rfl ?_
    refine k_iload_n C dX1_machineNow_97 rfl ?_
    refine kx_S C rfl ms_X1_340 dX1_machineNow_98 ((c_scoreOf (by omega) hR H G hm.1 hc hn)) rfl rfl (Nat.le_of_ble_eq_true rfl) ⟨(Nat.le_of_ble_eq_true rfl), (Nat.le_of_ble_eq_true rfl)⟩ (by omega) (fun v kk hp_ => ?_) (fun _ _ hx => hx.elim)
    obtain ⟨rfl, rfl⟩ := hp_
    rw [show scoreC m.1 c what = machC m c what by unfold machC; rw [if_neg (by omega), if_neg (by omega), if_neg (by omega), if_neg (by omega), if_neg (by omega), if_neg (by omega)]]
    exact k_iret C E dX1_machineNow_101 (by omega) ⟨rfl, rfl⟩
/-- what a cell tells -/
def cellC (T : Tb) (k what : Int) : Int := match T.2 k with
  | none => -1
  | some r => if what = 0 then r.1 else if what = 1 then max 0 r.2.1 else r.2.2
theorem c_cellNow {w : Wd} {h : Hp} {t lst ar : Nat} {T : Tb} {s b what : Int} (G : isTb w h t lst ar T) (hT : TbOk T) (hs : 0 ≤ s ∧ s < T.1) (hb : 0 ≤ b ∧ b ≤ 1) (hw : 0 ≤ what ∧ what ≤ 2) : Ct w yX1_cellNow (ws_ yX1_cellNow cX1_cellNow 5 (some FieldType.int)) 4 86 0 0 [.ref t, jI s, jI b, jI what] h (fun v h' => v = some (jI (cellC T (2 * s + b) what)) ∧ h' = h) NoX := by
  have G1 := G.1
  refine Ct.of (by decide) [some (.ref t), some (jI s), some (jI b), some (jI what), none] rfl (Nat.le_of_ble_eq_true rfl) (fun K C E N0 => ?_)
  generalize hres : cellC T (2 * s + b) what = res at *
  unfold cellC at hres
  refine k_aload_n C dX1_cellNow_0 rfl ?_
  refine k_iload_n C dX1_cellNow_1 rfl ?_
  refine k_iload_n C dX1_cellNow_2 rfl ?_
  refine kx_V C rfl mv_X1_95 dX1_cellNow_3 ((c_cell G hT.2.1 hs hb)) (by assumption) rfl rfl (Nat.le_of_ble_eq_true rfl) ⟨(Nat.le_of_ble_eq_true rfl), (Nat.le_of_ble_eq_true rfl)⟩ (by omega) (fun v kk hp_ => ?_) (fun _ _ hx => hx.elim)
  obtain ⟨o, rfl, e2, rfl⟩ := hp_
  obtain ⟨vo, e3⟩ := e2.cell
  refine k_astore C dX1_cellNow_6 (Nat.le_of_ble_eq_true rfl) rfl ?_
  refine k_aload C dX1_cellNow_8 rfl ?_
  refine kx_V C rfl mv_X1_99 dX1_cellNow_10 ((c_orPresent e2)) (by assumption) rfl rfl (Nat.le_of_ble_eq_true rfl) ⟨(Nat.le_of_ble_eq_true rfl), (Nat.le_of_ble_eq_true rfl)⟩ (by omega) (fun v kk hp_ => ?_) (fun _ _ hx => hx.elim)
  obtain ⟨rfl, rfl⟩ := hp_
  cases hce : T.2 (2 * s + b) with
  | none =>
    rw [hce] at hres
    dsimp only at hres
    refine k_ifne_b C dX1_cellNow_13 (tgt := 18) (by decide) (fun g1 => by cases g1) (fun g1 => ?_)
    refine k_iconst C dX1_cellNow_16 ?_
    rw [hres]
    exact k_iret C E dX1_cellNow_17 (by omega) ⟨rfl, rfl⟩
  | some r =>
    rw [hce] at hres e2
    dsimp only at hres
    obtain ⟨u1, u2, u3, u4⟩ := hT.2.2 _ r (by omega) (by omega) hce
    refine k_ifne_b C dX1_cellNow_13 (tgt := 18) (by decide) (fun g1 => ?_) (fun g1 => by cases g1)
    refine k_iload_n C dX1_cellNow_18 rfl ?_
    refine k_if_ne C dX1_cellNow_19 (tgt := 36) (by decide) (by omega) (fun g1 => ?_) (fun g2 => ?_)
    · rw [if_neg g1] at hres
      refine k_iload_n C dX1_cellNow_36 rfl ?_
      refine k_iconst C dX1_cellNow_37 ?_
      refine k_icmp_ne C dX1_cellNow_38 (tgt := 59) (by decide) (by omega) (fun g3 => ?_) (fun g4 => ?_)
      · rw [if_neg g3] at hres
        refine k_aload C dX1_cellNow_59 rfl ?_
        refine kx_V C rfl mv_X1_104 dX1_cellNow_61 ((c_orGet e2)) (by assumption) rfl rfl (Nat.le_of_ble_eq_true rfl) ⟨(Nat.le_of_ble_eq_true rfl), (Nat.le_of_ble_eq_true rfl)⟩ (by omega) (fun v kk hp_ => ?_) (fun _ _ hx => hx.elim)
        obtain ⟨a, rfl, e6, rfl⟩ := hp_
        unfold isRu at e6
        refine k_castO C ck_X1_107_6 dX1_cellNow_64 (by assumption) ?_
        refine k_getN C fn_X1_321 dX1_cellNow_67 (by assumption) (by rfl) ?_
        rw [hres]
        exact k_iret C E dX1_cellNow_70 (by omega) ⟨rfl, rfl⟩
      · rw [if_pos g4] at hres
        refine k_iconst C dX1_cellNow_41 ?_
        refine k_aload C dX1_cellNow_42 rfl ?_
        refine kx_V C rfl mv_X1_104 dX1_cellNow_44 ((c_orGet e2)) (by assumption) rfl rfl (Nat.le_of_ble_eq_true rfl) ⟨(Nat.le_of_ble_eq_true rfl), (Nat.le_of_ble_eq_true rfl)⟩ (by omega) (fun v kk hp_ => ?_) (fun _ _ hx => hx.elim)
        obtain ⟨a, rfl, e6, rfl⟩ := hp_
        unfold isRu at e6
        refine k_castO C ck_X1_107_6 dX1_cellNow_47 (by assumption) ?_
        refine k_getN C fn_X1_318 dX1_cellNow_50 (by assumption) (by rfl) ?_
        refine k_max C rfl q439 dX1_cellNow_53 (by omega) ⟨(Nat.le_of_ble_eq_true rfl), (Nat.le_of_ble_eq_true rfl)⟩ (by omega) ?_
        refine k_goto C dX1_cellNow_56 (tgt := 70) (by decide) ?_
        rw [hres]
        exact k_iret C E dX1_cellNow_70 (by omega) ⟨rfl, rfl⟩
    · rw [if_pos g2] at hres
      refine k_aload C dX1_cellNow_22 rfl ?_
      refine kx_V C rfl mv_X1_104 dX1_cellNow_24 ((c_orGet e2)) (by assumption) rfl rfl (Nat.le_of_ble_eq_true rfl) ⟨(Nat.le_of_ble_eq_true rfl), (Nat.le_of_ble_eq_true rfl)⟩ (by omega) (fun v kk hp_ => ?_) (fun _ _ hx => hx.elim)
      obtain ⟨a, rfl, e6, rfl⟩ := hp_
      unfold isRu at e6
      refine k_castO C ck_X1_107_6 dX1_cellNow_27 (by assumption) ?_
      refine k_getN C fn_X1_315 dX1_cellNow_30 (by assumption) (by rfl) ?_
      refine k_goto C dX1_cellNow_33 (tgt := 70) (by decide) ?_
      rw [hres]
      exact k_iret C E dX1_cellNow_70 (by omega) ⟨rfl, rfl⟩
