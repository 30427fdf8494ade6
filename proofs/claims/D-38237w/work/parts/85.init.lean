/-! ===== the beginning of both ===== -/
set_option maxRecDepth 100000
/-- nothing yet -/
def sg0 : Sg := (0, fun _ => ((2, fun _ => none), none, -1, -1), 0, fun _ => (1, 1, 1), 0, 0, 0)
theorem sg0_ok : SgOk sg0 := ⟨by decide, by decide, fun i h => absurd h (Nat.not_lt_zero i), fun i h => absurd h (Nat.not_lt_zero i), by decide, by decide, by decide⟩
theorem c_mInit {w : Wd} {h : Hp} {m : Nat} (hm : h.2 m = some (.inl (2, [jI 0, .null, .null, jI 0, jI 0, jI 0, .long 0]))) : Ct w yX3_init (ws_ yX3_init cX3_init 1 none) 4 100 2 6 [.ref m] h (fun v h' => v = none ∧ ∃ L : ML, isMo w h' m L sg0 0 0 ∧ sepM L 0 0 ∧ Upd h h' [m] ∧ ∀ q, ownM m L 0 q → q = m ∨ h.2 q = none) NoX := by
  refine Ct.of (by decide) [some (.ref m)] rfl (Nat.le_of_ble_eq_true rfl) (fun K C E N0 => ?_)
  refine k_aload_n C dX3_init_0 rfl ?_
  refine k_objinit C rfl q1235 q72 qobj dX3_init_1 ⟨(Nat.le_of_ble_eq_true rfl), (Nat.le_of_ble_eq_true rfl)⟩ ?_
  refine k_aload_n C dX3_init_4 rfl ?_
  refine k_new C nw_X3_7 dX3_init_5 (by omega) (fun lm h1 N1 => ?_)
  have l1 := N1.2.1
  have m1 := N1.2.2.1.2 _ _ hm
  refine k_dup C dX3_init_8 rfl ?_
  refine kx_I C rfl mi_X3_9 dX3_init_9 ((c_alInit l1)) rfl rfl (Nat.le_of_ble_eq_true rfl) ⟨(Nat.le_of_ble_eq_true rfl), (Nat.le_of_ble_eq_true rfl)⟩ (by omega) (fun v h2 hp_ => ?_) (fun _ _ hx => hx.elim)
  obtain ⟨rfl, P2⟩ := hp_
  have l2 := P2.2.1
  have lmm : lm ≠ m := Ne.symm (N1.ne hm)
  have m2 := P2.2.2 _ _ m1 (Ne.symm lmm)
  have N2 := N1.put P2
  refine k_putF C fg_X3_10 ft_2_1 rfl (fun r hr => by cases hr; rfl) dX3_init_12 (by assumption) (Or.inl rfl) rfl rfl (fun h3 P3 => ?_)
  have m3 := P3.2.1
  have l3 := P3.2.2 _ _ l2 lmm
  refine k_aload_n C dX3_init_15 rfl ?_
  refine k_new C nw_X3_7 dX3_init_16 (by omega) (fun lt h4 N4 => ?_)
  have t4 := N4.2.1
  have m4 := N4.2.2.1.2 _ _ m3
  have l4 := N4.2.2.1.2 _ _ l3
  have ltm : lt ≠ m := Ne.symm (N4.ne m3)
  have lml : lm ≠ lt := N4.ne l3
  refine k_dup C dX3_init_19 rfl ?_
  refine kx_I C rfl mi_X3_9 dX3_init_20 ((c_alInit t4)) rfl rfl (Nat.le_of_ble_eq_true rfl) ⟨(Nat.le_of_ble_eq_true rfl), (Nat.le_of_ble_eq_true rfl)⟩ (by omega) (fun v h5 hp_ => ?_) (fun _ _ hx => hx.elim)
  obtain ⟨rfl, P5⟩ := hp_
  have t5 := P5.2.1
  have m5 := P5.2.2 _ _ m4 (Ne.symm ltm)
  have l5 := P5.2.2 _ _ l4 lml
  refine k_putF C fg_X3_16 ft_2_2 rfl (fun r hr => by cases hr; rfl) dX3_init_23 (by assumption) (Or.inl rfl) rfl rfl (fun h6 P6 => ?_)
  have m6 := P6.2.1
  have l6 := P6.2.2 _ _ l5 lmm
  have t6 := P6.2.2 _ _ t5 ltm
  refine Wk.wf fun _ _ _ hc => ?_
  have a6 : h6.2 (w.ad 5) = some (aR 4 0 (fun _ => none)) := hc.2.2.2.2.2.1
  have lt0 : h.2 lt = none := N2.2.2.1.old (P3.old m2 N4.1)
  have U3 : Upd h h3 [m] := (N2.2.2.1.upd [m]).trans P3.upd (fun x hx => Or.inl hx)
  have U4 : Upd h h4 [m] := U3.trans (N4.2.2.1.upd [m]) (fun x hx => Or.inl hx)
  have U5 : Upd h h5 [m] := U4.trans P5.upd (fun x hx => Or.inr (by rw [show x = lt by simpa using hx]; exact lt0))
  have U6 : Upd h h6 [m] := U5.trans P6.upd (fun x hx => Or.inl hx)
  exact k_vret C E dX3_init_26 (by omega) ⟨rfl, ((lm, w.ad 5, 0), (lt, w.ad 5, 0), (fun _ => (0, 0)), (fun _ => 0)), ⟨m6, ⟨fun _ => none, ⟨l6, a6, Nat.le_refl _, show (0 : Nat) < 1000000 by decide, fun _ => rfl⟩, fun i h => absurd h (Nat.not_lt_zero i)⟩, ⟨fun _ => none, ⟨t6, a6, Nat.le_refl _, show (0 : Nat) < 1000000 by decide, fun _ => rfl⟩, fun i h => absurd h (Nat.not_lt_zero i)⟩, fun i h => absurd h (Nat.not_lt_zero i), fun i h => absurd h (Nat.not_lt_zero i)⟩, ⟨⟨rfl, rfl⟩, lml, fun z => absurd z (Nat.lt_irrefl 0), fun i j h => absurd h (Nat.not_lt_zero i)⟩, U6, fun q hq => by
    rcases hq with z | z | ⟨z, -⟩ | z | ⟨z, -⟩ | ⟨i, z, -⟩
    · exact Or.inl z
    · exact Or.inr (by rw [z]; exact N1.1)
    · exact absurd z (Nat.lt_irrefl 0)
    · exact Or.inr (by rw [z]; exact lt0)
    · exact absurd z (Nat.lt_irrefl 0)
    · exact absurd z (Nat.not_lt_zero i)⟩
theorem c_gtInit {w : Wd} {h : Hp} {a : Nat} : Ct w yX2_init (ws_ yX2_init cX2_init 1 none) 1 40 0 0 [.ref a] h (fun v h' => v = none ∧ h' = h) NoX := by
  refine Ct.of (by decide) [some (.ref a)] rfl (Nat.le_of_ble_eq_true rfl) (fun K C E N0 => ?_)
  refine k_aload_n C dX2_init_0 rfl ?_
  refine k_objinit C rfl q108 q72 qobj dX2_init_1 ⟨(Nat.le_of_ble_eq_true rfl), (Nat.le_of_ble_eq_true rfl)⟩ ?_
  exact k_vret C E dX2_init_4 (by omega) ⟨rfl, rfl⟩
theorem c_xInit {w : Wd} {h : Hp} {m : Nat} (hm : h.2 m = some (.inl (0, [.null, .null, .null]))) : Ct w yX1_init (ws_ yX1_init cX1_init 1 none) 4 100 3 9 [.ref m] h (fun v h' => v = none ∧ ∃ X : XL, isX w h' m X sg0 ∧ sepX X 0 0 ∧ Upd h h' [m] ∧ ∀ q, ownX X 0 q → h.2 q = none) NoX := by
  refine Ct.of (by decide) [some (.ref m)] rfl (Nat.le_of_ble_eq_true rfl) (fun K C E N0 => ?_)
  refine k_aload_n C dX1_init_0 rfl ?_
  refine k_objinit C rfl q71 q72 qobj dX1_init_1 ⟨(Nat.le_of_ble_eq_true rfl), (Nat.le_of_ble_eq_true rfl)⟩ ?_
  refine k_aload_n C dX1_init_4 rfl ?_
  refine k_new C nw_X1_46 dX1_init_5 (by omega) (fun lm h1 N1 => ?_)
  have l1 := N1.2.1
  have m1 := N1.2.2.1.2 _ _ hm
  refine k_dup C dX1_init_8 rfl ?_
  refine kx_I C rfl mi_X1_48 dX1_init_9 ((c_alInit l1)) rfl rfl (Nat.le_of_ble_eq_true rfl) ⟨(Nat.le_of_ble_eq_true rfl), (Nat.le_of_ble_eq_true rfl)⟩ (by omega) (fun v h2 hp_ => ?_) (fun _ _ hx => hx.elim)
  obtain ⟨rfl, P2⟩ := hp_
  have l2 := P2.2.1
  have lmm : lm ≠ m := Ne.symm (N1.ne hm)
  have m2 := P2.2.2 _ _ m1 (Ne.symm lmm)
  have N2 := N1.put P2
  refine k_putF C fg_X1_130 ft_0_0 rfl (fun r hr => by cases hr; rfl) dX1_init_12 (by assumption) (Or.inl rfl) rfl rfl (fun h3 P3 => ?_)
  have m3 := P3.2.1
  have l3 := P3.2.2 _ _ l2 lmm
  refine k_aload_n C dX1_init_15 rfl ?_
  refine k_new C nw_X1_46 dX1_init_16 (by omega) (fun lt h4 N4 => ?_)
  have t4 := N4.2.1
  have m4 := N4.2.2.1.2 _ _ m3
  have l4 := N4.2.2.1.2 _ _ l3
  have ltm : lt ≠ m := Ne.symm (N4.ne m3)
  have lml : lm ≠ lt := N4.ne l3
  refine k_dup C dX1_init_19 rfl ?_
  refine kx_I C rfl mi_X1_48 dX1_init_20 ((c_alInit t4)) rfl rfl (Nat.le_of_ble_eq_true rfl) ⟨(Nat.le_of_ble_eq_true rfl), (Nat.le_of_ble_eq_true rfl)⟩ (by omega) (fun v h5 hp_ => ?_) (fun _ _ hx => hx.elim)
  obtain ⟨rfl, P5⟩ := hp_
  have t5 := P5.2.1
  have m5 := P5.2.2 _ _ m4 (Ne.symm ltm)
  have l5 := P5.2.2 _ _ l4 lml
  refine k_putF C fg_X1_134 ft_0_1 rfl (fun r hr => by cases hr; rfl) dX1_init_23 (by assumption) (Or.inl rfl) rfl rfl (fun h6 P6 => ?_)
  have m6 := P6.2.1
  have l6 := P6.2.2 _ _ l5 lmm
  have t6 := P6.2.2 _ _ t5 ltm
  have lt0 : h.2 lt = none := N2.2.2.1.old (P3.old m2 N4.1)
  have U3 : Upd h h3 [m] := (N2.2.2.1.upd [m]).trans P3.upd (fun x hx => Or.inl hx)
  have U4 : Upd h h4 [m] := U3.trans (N4.2.2.1.upd [m]) (fun x hx => Or.inl hx)
  have U5 : Upd h h5 [m] := U4.trans P5.upd (fun x hx => Or.inr (by rw [show x = lt by simpa using hx]; exact lt0))
  have U6 : Upd h h6 [m] := U5.trans P6.upd (fun x hx => Or.inl hx)
  refine k_aload_n C dX1_init_26 rfl ?_
  refine k_new C nw_X1_137 dX1_init_27 (by omega) (fun g h7 N7 => ?_)
  have g7 := N7.2.1
  have m7 := N7.2.2.1.2 _ _ m6
  have gm : g ≠ m := Ne.symm (N7.ne m6)
  have g0' : h.2 g = none := by
    cases e : h.2 g with
    | none => rfl
    | some d =>
      have := U6.2 _ _ e (by simpa using gm)
      rw [N7.1] at this; cases this
  refine k_dup C dX1_init_30 rfl ?_
  refine kx_IN C rfl min_X1_139 dX1_init_31 (c_gtInit) rfl rfl (Nat.le_of_ble_eq_true rfl) ⟨(Nat.le_of_ble_eq_true rfl), (Nat.le_of_ble_eq_true rfl)⟩ (by omega) (fun v h8 hp_ => ?_) (fun _ _ hx => hx.elim)
  obtain ⟨rfl, rfl⟩ := hp_
  refine k_putF C fg_X1_140 ft_0_2 rfl (fun r hr => by cases hr; rfl) dX1_init_34 (by assumption) (Or.inl rfl) rfl rfl (fun h9 P9 => ?_)
  have m9 := P9.2.1
  have l9 := P9.2.2 _ _ (N7.2.2.1.2 _ _ l6) lmm
  have t9 := P9.2.2 _ _ (N7.2.2.1.2 _ _ t6) ltm
  have g9 := P9.2.2 _ _ g7 gm
  have U9 : Upd h h9 [m] := (U6.trans (N7.2.2.1.upd [m]) (fun x hx => Or.inl hx)).trans P9.upd (fun x hx => Or.inl hx)
  refine Wk.wf fun _ _ _ hc => ?_
  have a6 : h9.2 (w.ad 5) = some (aR 4 0 (fun _ => none)) := hc.2.2.2.2.2.1
  exact k_vret C E dX1_init_37 (by omega) ⟨rfl, ((lm, w.ad 5, 0), (lt, w.ad 5, 0), g, (fun _ => (0, 0, 0, 0)), (fun _ => (0, 0))), ⟨m9, ⟨fun _ => none, ⟨l9, a6, Nat.le_refl _, show (0 : Nat) < 1000000 by decide, fun _ => rfl⟩, fun i h => absurd h (Nat.not_lt_zero i)⟩, ⟨fun _ => none, ⟨t9, a6, Nat.le_refl _, show (0 : Nat) < 1000000 by decide, fun _ => rfl⟩, fun i h => absurd h (Nat.not_lt_zero i)⟩, g9, fun i h => absurd h (Nat.not_lt_zero i), fun i h => absurd h (Nat.not_lt_zero i)⟩, ⟨⟨rfl, rfl⟩, lml, fun z => absurd z (Nat.lt_irrefl 0), fun i h => absurd h (Nat.not_lt_zero i), fun i j h => absurd h (Nat.not_lt_zero i)⟩, U9, fun q hq => by
    rcases hq with z | ⟨z, -⟩ | z | ⟨z, -⟩ | z | ⟨i, z, -⟩
    · rw [z]; exact N1.1
    · exact absurd z (Nat.lt_irrefl 0)
    · rw [z]; exact lt0
    · exact absurd z (Nat.lt_irrefl 0)
    · rw [z]; exact g0'
    · exact absurd z (Nat.not_lt_zero i)⟩
