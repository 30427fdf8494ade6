/-! ===== the kinds: calls of what the enum's constants do ===== -/
set_option maxRecDepth 100000
theorem mc_X1_273_17 : McC "Haltingale" 273 17 "Haltingale$Kind" ⟨"Haltingale$Kind", "isFit", "(II)Z"⟩ yX16_isFit cX16_isFit 3 (some FieldType.boolean) 2 := ⟨_, rfl, q932, q934, q935, q936, q937, q933, by decide +kernel, by decide +kernel⟩
theorem mc_X1_279_17 : McC "Haltingale" 279 17 "Haltingale$Kind" ⟨"Haltingale$Kind", "takes", "(LHaltingale$Table;II)Z"⟩ yX16_takes cX16_takes 5 (some FieldType.boolean) 3 := ⟨_, rfl, q947, q949, q950, q951, q952, q948, by decide +kernel, by decide +kernel⟩
theorem mc_X1_312_17 : McC "Haltingale" 312 17 "java/lang/Enum" ⟨"Haltingale$Kind", "ordinal", "()I"⟩ yJ17_ordinal cJ17_ordinal 1 (some FieldType.int) 0 := ⟨_, rfl, q401, q402, q404, q408, q409, q403, by decide +kernel, by decide +kernel⟩
theorem mc_X1_273_18 : McC "Haltingale" 273 18 "Haltingale$Kind" ⟨"Haltingale$Kind", "isFit", "(II)Z"⟩ yX18_isFit cX18_isFit 3 (some FieldType.boolean) 2 := ⟨_, rfl, q932, q934, q938, q939, q940, q933, by decide +kernel, by decide +kernel⟩
theorem mc_X1_279_18 : McC "Haltingale" 279 18 "Haltingale$Kind" ⟨"Haltingale$Kind", "takes", "(LHaltingale$Table;II)Z"⟩ yX18_takes cX18_takes 4 (some FieldType.boolean) 3 := ⟨_, rfl, q947, q949, q957, q958, q959, q948, by decide +kernel, by decide +kernel⟩
theorem mc_X1_312_18 : McC "Haltingale" 312 18 "java/lang/Enum" ⟨"Haltingale$Kind", "ordinal", "()I"⟩ yJ17_ordinal cJ17_ordinal 1 (some FieldType.int) 0 := ⟨_, rfl, q401, q402, q405, q408, q409, q403, by decide +kernel, by decide +kernel⟩
theorem mc_X1_273_19 : McC "Haltingale" 273 19 "Haltingale$Kind" ⟨"Haltingale$Kind", "isFit", "(II)Z"⟩ yX17_isFit cX17_isFit 3 (some FieldType.boolean) 2 := ⟨_, rfl, q932, q934, q941, q942, q943, q933, by decide +kernel, by decide +kernel⟩
theorem mc_X1_279_19 : McC "Haltingale" 279 19 "Haltingale$Kind" ⟨"Haltingale$Kind", "takes", "(LHaltingale$Table;II)Z"⟩ yX17_takes cX17_takes 6 (some FieldType.boolean) 3 := ⟨_, rfl, q947, q949, q963, q964, q965, q948, by decide +kernel, by decide +kernel⟩
theorem mc_X1_312_19 : McC "Haltingale" 312 19 "java/lang/Enum" ⟨"Haltingale$Kind", "ordinal", "()I"⟩ yJ17_ordinal cJ17_ordinal 1 (some FieldType.int) 0 := ⟨_, rfl, q401, q402, q406, q408, q409, q403, by decide +kernel, by decide +kernel⟩
theorem mc_X1_273_20 : McC "Haltingale" 273 20 "Haltingale$Kind" ⟨"Haltingale$Kind", "isFit", "(II)Z"⟩ yX19_isFit cX19_isFit 3 (some FieldType.boolean) 2 := ⟨_, rfl, q932, q934, q944, q945, q946, q933, by decide +kernel, by decide +kernel⟩
theorem mc_X1_279_20 : McC "Haltingale" 279 20 "Haltingale$Kind" ⟨"Haltingale$Kind", "takes", "(LHaltingale$Table;II)Z"⟩ yX19_takes cX19_takes 4 (some FieldType.boolean) 3 := ⟨_, rfl, q947, q949, q971, q972, q973, q948, by decide +kernel, by decide +kernel⟩
theorem mc_X1_312_20 : McC "Haltingale" 312 20 "java/lang/Enum" ⟨"Haltingale$Kind", "ordinal", "()I"⟩ yJ17_ordinal cJ17_ordinal 1 (some FieldType.int) 0 := ⟨_, rfl, q401, q402, q407, q408, q409, q403, by decide +kernel, by decide +kernel⟩
def fitB (κ a b : Int) : Bool := if κ = 0 then decide (1 ≤ a ∧ a ≤ 500 ∧ b = 0) else if κ = 1 then decide (0 ≤ a ∧ a ≤ 150 ∧ 1 ≤ b ∧ b ≤ 150) else if κ = 2 then decide (1 ≤ a ∧ a ≤ 6 ∧ b = 0) else decide (1 ≤ a ∧ a ≤ 3 ∧ b = 0)
/-- an int's range -/
def i32 (a : Int) : Prop := -2147483648 ≤ a ∧ a < 2147483648
theorem c_fitX16 {w : Wd} {h : Hp} {x : Nat} {a b : Int} (ha : i32 a) (hb : i32 b) : CtC w yX16_isFit (ws_ yX16_isFit cX16_isFit 3 (some FieldType.boolean)) 0 0 0 0 [.ref x, jI a, jI b] h (fun v h' => v = some (jI (b2i (fitB 0 a b))) ∧ h' = h) NoX := by
  unfold i32 at ha hb
  have e : fitB 0 a b = decide (1 ≤ a ∧ a ≤ 500 ∧ b = 0) := rfl
  rw [e]
  refine CtC.of (by decide) [some (.ref x), some (jI a), some (jI b)] rfl (Nat.le_of_ble_eq_true rfl) (fun K C E N0 => ?_)
  refine k_iload_n C dX16_isFit_0 rfl ?_
  refine k_iconst C dX16_isFit_1 ?_
  refine k_icmp_lt C dX16_isFit_2 (tgt := 20) (by decide) (by omega) (fun g1 => ?_) (fun g2 => ?_)
  · refine k_iconst C dX16_isFit_20 ?_
    exact k_zret (b := false) C E dX16_isFit_21 (by omega) ⟨by rw [decide_eq_false (by omega)], rfl⟩
  · refine k_iload_n C dX16_isFit_5 rfl ?_
    refine k_sipush C dX16_isFit_6 (by decide) ?_
    refine k_icmp_gt C dX16_isFit_9 (tgt := 20) (by decide) (by omega) (fun g3 => ?_) (fun g4 => ?_)
    · refine k_iconst C dX16_isFit_20 ?_
      exact k_zret (b := false) C E dX16_isFit_21 (by omega) ⟨by rw [decide_eq_false (by omega)], rfl⟩
    · refine k_iload_n C dX16_isFit_12 rfl ?_
      refine k_if_ne C dX16_isFit_13 (tgt := 20) (by decide) (by omega) (fun g5 => ?_) (fun g6 => ?_)
      · refine k_iconst C dX16_isFit_20 ?_
        exact k_zret (b := false) C E dX16_isFit_21 (by omega) ⟨by rw [decide_eq_false (by omega)], rfl⟩
      · refine k_iconst C dX16_isFit_16 ?_
        refine k_goto C dX16_isFit_17 (tgt := 21) (by decide) ?_
        exact k_zret (b := true) C E dX16_isFit_21 (by omega) ⟨by rw [decide_eq_true (by omega)], rfl⟩
theorem c_fitX17 {w : Wd} {h : Hp} {x : Nat} {a b : Int} (ha : i32 a) (hb : i32 b) : CtC w yX17_isFit (ws_ yX17_isFit cX17_isFit 3 (some FieldType.boolean)) 0 0 0 0 [.ref x, jI a, jI b] h (fun v h' => v = some (jI (b2i (fitB 2 a b))) ∧ h' = h) NoX := by
  unfold i32 at ha hb
  have e : fitB 2 a b = decide (1 ≤ a ∧ a ≤ 6 ∧ b = 0) := rfl
  rw [e]
  refine CtC.of (by decide) [some (.ref x), some (jI a), some (jI b)] rfl (Nat.le_of_ble_eq_true rfl) (fun K C E N0 => ?_)
  refine k_iload_n C dX17_isFit_0 rfl ?_
  refine k_iconst C dX17_isFit_1 ?_
  refine k_icmp_lt C dX17_isFit_2 (tgt := 19) (by decide) (by omega) (fun g1 => ?_) (fun g2 => ?_)
  · refine k_iconst C dX17_isFit_19 ?_
    exact k_zret (b := false) C E dX17_isFit_20 (by omega) ⟨by rw [decide_eq_false (by omega)], rfl⟩
  · refine k_iload_n C dX17_isFit_5 rfl ?_
    refine k_bipush C dX17_isFit_6 (by decide) ?_
    refine k_icmp_gt C dX17_isFit_8 (tgt := 19) (by decide) (by omega) (fun g3 => ?_) (fun g4 => ?_)
    · refine k_iconst C dX17_isFit_19 ?_
      exact k_zret (b := false) C E dX17_isFit_20 (by omega) ⟨by rw [decide_eq_false (by omega)], rfl⟩
    · refine k_iload_n C dX17_isFit_11 rfl ?_
      refine k_if_ne C dX17_isFit_12 (tgt := 19) (by decide) (by omega) (fun g5 => ?_) (fun g6 => ?_)
      · refine k_iconst C dX17_isFit_19 ?_
        exact k_zret (b := false) C E dX17_isFit_20 (by omega) ⟨by rw [decide_eq_false (by omega)], rfl⟩
      · refine k_iconst C dX17_isFit_15 ?_
        refine k_goto C dX17_isFit_16 (tgt := 20) (by decide) ?_
        exact k_zret (b := true) C E dX17_isFit_20 (by omega) ⟨by rw [decide_eq_true (by omega)], rfl⟩
theorem c_fitX19 {w : Wd} {h : Hp} {x : Nat} {a b : Int} (ha : i32 a) (hb : i32 b) : CtC w yX19_isFit (ws_ yX19_isFit cX19_isFit 3 (some FieldType.boolean)) 0 0 0 0 [.ref x, jI a, jI b] h (fun v h' => v = some (jI (b2i (fitB 3 a b))) ∧ h' = h) NoX := by
  unfold i32 at ha hb
  have e : fitB 3 a b = decide (1 ≤ a ∧ a ≤ 3 ∧ b = 0) := rfl
  rw [e]
  refine CtC.of (by decide) [some (.ref x), some (jI a), some (jI b)] rfl (Nat.le_of_ble_eq_true rfl) (fun K C E N0 => ?_)
  refine k_iload_n C dX19_isFit_0 rfl ?_
  refine k_iconst C dX19_isFit_1 ?_
  refine k_icmp_lt C dX19_isFit_2 (tgt := 18) (by decide) (by omega) (fun g1 => ?_) (fun g2 => ?_)
  · refine k_iconst C dX19_isFit_18 ?_
    exact k_zret (b := false) C E dX19_isFit_19 (by omega) ⟨by rw [decide_eq_false (by omega)], rfl⟩
  · refine k_iload_n C dX19_isFit_5 rfl ?_
    refine k_iconst C dX19_isFit_6 ?_
    refine k_icmp_gt C dX19_isFit_7 (tgt := 18) (by decide) (by omega) (fun g3 => ?_) (fun g4 => ?_)
    · refine k_iconst C dX19_isFit_18 ?_
      exact k_zret (b := false) C E dX19_isFit_19 (by omega) ⟨by rw [decide_eq_false (by omega)], rfl⟩
    · refine k_iload_n C dX19_isFit_10 rfl ?_
      refine k_if_ne C dX19_isFit_11 (tgt := 18) (by decide) (by omega) (fun g5 => ?_) (fun g6 => ?_)
      · refine k_iconst C dX19_isFit_18 ?_
        exact k_zret (b := false) C E dX19_isFit_19 (by omega) ⟨by rw [decide_eq_false (by omega)], rfl⟩
      · refine k_iconst C dX19_isFit_14 ?_
        refine k_goto C dX19_isFit_15 (tgt := 19) (by decide) ?_
        exact k_zret (b := true) C E dX19_isFit_19 (by omega) ⟨by rw [decide_eq_true (by omega)], rfl⟩
theorem c_fitX18 {w : Wd} {h : Hp} {x : Nat} {a b : Int} (ha : i32 a) (hb : i32 b) : CtC w yX18_isFit (ws_ yX18_isFit cX18_isFit 3 (some FieldType.boolean)) 0 0 0 0 [.ref x, jI a, jI b] h (fun v h' => v = some (jI (b2i (fitB 1 a b))) ∧ h' = h) NoX := by
  unfold i32 at ha hb
  have e : fitB 1 a b = decide (0 ≤ a ∧ a ≤ 150 ∧ 1 ≤ b ∧ b ≤ 150) := rfl
  rw [e]
  refine CtC.of (by decide) [some (.ref x), some (jI a), some (jI b)] rfl (Nat.le_of_ble_eq_true rfl) (fun K C E N0 => ?_)
  refine k_iload_n C dX18_isFit_0 rfl ?_
  refine k_if_lt C dX18_isFit_1 (tgt := 27) (by decide) (by omega) (fun g1 => ?_) (fun g2 => ?_)
  · refine k_iconst C dX18_isFit_27 ?_
    exact k_zret (b := false) C E dX18_isFit_28 (by omega) ⟨by rw [decide_eq_false (by omega)], rfl⟩
  · refine k_iload_n C dX18_isFit_4 rfl ?_
    refine k_sipush C dX18_isFit_5 (by decide) ?_
    refine k_icmp_gt C dX18_isFit_8 (tgt := 27) (by decide) (by omega) (fun g3 => ?_) (fun g4 => ?_)
    · refine k_iconst C dX18_isFit_27 ?_
      exact k_zret (b := false) C E dX18_isFit_28 (by omega) ⟨by rw [decide_eq_false (by omega)], rfl⟩
    · refine k_iload_n C dX18_isFit_11 rfl ?_
      refine k_iconst C dX18_isFit_12 ?_
      refine k_icmp_lt C dX18_isFit_13 (tgt := 27) (by decide) (by omega) (fun g5 => ?_) (fun g6 => ?_)
      · refine k_iconst C dX18_isFit_27 ?_
        exact k_zret (b := false) C E dX18_isFit_28 (by omega) ⟨by rw [decide_eq_false (by omega)], rfl⟩
      · refine k_iload_n C dX18_isFit_16 rfl ?_
        refine k_sipush C dX18_isFit_17 (by decide) ?_
        refine k_icmp_gt C dX18_isFit_20 (tgt := 27) (by decide) (by omega) (fun g7 => ?_) (fun g8 => ?_)
        · refine k_iconst C dX18_isFit_27 ?_
          exact k_zret (b := false) C E dX18_isFit_28 (by omega) ⟨by rw [decide_eq_false (by omega)], rfl⟩
        · refine k_iconst C dX18_isFit_23 ?_
          refine k_goto C dX18_isFit_24 (tgt := 28) (by decide) ?_
          exact k_zret (b := true) C E dX18_isFit_28 (by omega) ⟨by rw [decide_eq_true (by omega)], rfl⟩
theorem c_ord17 {w : Wd} {h : Hp} {x : Nat} {z : Int} (hx : h.2 x = some (.inl (17, [jI z]))) : Ct w yJ17_ordinal (ws_ yJ17_ordinal cJ17_ordinal 1 (some FieldType.int)) 0 0 0 0 [.ref x] h (fun v h' => v = some (jI z) ∧ h' = h) NoX := by
  refine Ct.of (by decide) [some (.ref x)] rfl (Nat.le_of_ble_eq_true rfl) (fun K C E N0 => ?_)
  refine k_aload_n C dJ17_ordinal_0 rfl ?_
  refine k_get C fg_J17_7_17 dJ17_ordinal_1 (by assumption) (by rfl) ?_
  exact k_iret C E dJ17_ordinal_4 (by omega) ⟨rfl, rfl⟩
theorem c_ord18 {w : Wd} {h : Hp} {x : Nat} {z : Int} (hx : h.2 x = some (.inl (18, [jI z]))) : Ct w yJ17_ordinal (ws_ yJ17_ordinal cJ17_ordinal 1 (some FieldType.int)) 0 0 0 0 [.ref x] h (fun v h' => v = some (jI z) ∧ h' = h) NoX := by
  refine Ct.of (by decide) [some (.ref x)] rfl (Nat.le_of_ble_eq_true rfl) (fun K C E N0 => ?_)
  refine k_aload_n C dJ17_ordinal_0 rfl ?_
  refine k_get C fg_J17_7_18 dJ17_ordinal_1 (by assumption) (by rfl) ?_
  exact k_iret C E dJ17_ordinal_4 (by omega) ⟨rfl, rfl⟩
theorem c_ord19 {w : Wd} {h : Hp} {x : Nat} {z : Int} (hx : h.2 x = some (.inl (19, [jI z]))) : Ct w yJ17_ordinal (ws_ yJ17_ordinal cJ17_ordinal 1 (some FieldType.int)) 0 0 0 0 [.ref x] h (fun v h' => v = some (jI z) ∧ h' = h) NoX := by
  refine Ct.of (by decide) [some (.ref x)] rfl (Nat.le_of_ble_eq_true rfl) (fun K C E N0 => ?_)
  refine k_aload_n C dJ17_ordinal_0 rfl ?_
  refine k_get C fg_J17_7_19 dJ17_ordinal_1 (by assumption) (by rfl) ?_
  exact k_iret C E dJ17_ordinal_4 (by omega) ⟨rfl, rfl⟩
theorem c_ord20 {w : Wd} {h : Hp} {x : Nat} {z : Int} (hx : h.2 x = some (.inl (20, [jI z]))) : Ct w yJ17_ordinal (ws_ yJ17_ordinal cJ17_ordinal 1 (some FieldType.int)) 0 0 0 0 [.ref x] h (fun v h' => v = some (jI z) ∧ h' = h) NoX := by
  refine Ct.of (by decide) [some (.ref x)] rfl (Nat.le_of_ble_eq_true rfl) (fun K C E N0 => ?_)
  refine k_aload_n C dJ17_ordinal_0 rfl ?_
  refine k_get C fg_J17_7_20 dJ17_ordinal_1 (by assumption) (by rfl) ?_
  exact k_iret C E dJ17_ordinal_4 (by omega) ⟨rfl, rfl⟩
theorem c_kindOf {w : Wd} {h : Hp} {κ : Int} (hk : i32 κ) : Ct w yX1_kindOf (ws_ yX1_kindOf cX1_kindOf 1 (some (FieldType.object "Haltingale$Kind"))) 10 242 1 6 [jI κ] h (fun v h' => (0 ≤ κ ∧ κ ≤ 3) ∧ v = some (.ref (w.ad (κ.toNat + 1))) ∧ h' = h) (fun E h' => ¬ (0 ≤ κ ∧ κ ≤ 3) ∧ E = sIAE ∧ Ext h h') := by
  unfold i32 at hk
  refine Ct.of (by decide) [some (jI κ)] rfl (Nat.le_of_ble_eq_true rfl) (fun K C E N0 => ?_)
  refine k_iload_n C dX1_kindOf_0 rfl ?_
  refine k_iconst C dX1_kindOf_1 ?_
  refine k_iconst C dX1_kindOf_2 ?_
  refine kx_S C rfl ms_X1_170 dX1_kindOf_3 ((c_mustBeIn (by omega))) rfl rfl (Nat.le_of_ble_eq_true rfl) ⟨(Nat.le_of_ble_eq_true rfl), (Nat.le_of_ble_eq_true rfl)⟩ (by omega) (fun v k1 hp_ => ?_) (fun E1 h1 hx => x_pass C E N0 (by omega) hx)
  obtain ⟨hin, rfl, rfl⟩ := hp_
  refine k_iload_n C dX1_kindOf_6 rfl ?_
  refine k_if_ne C dX1_kindOf_7 (tgt := 16) (by decide) (by omega) (fun g1 => ?_) (fun g2 => ?_)
  · refine k_iload_n C dX1_kindOf_16 rfl ?_
    refine k_iconst C dX1_kindOf_17 ?_
    refine k_icmp_ne C dX1_kindOf_18 (tgt := 27) (by decide) (by omega) (fun g3 => ?_) (fun g4 => ?_)
    · refine k_iload_n C dX1_kindOf_27 rfl ?_
      refine k_iconst C dX1_kindOf_28 ?_
      refine k_icmp_ne C dX1_kindOf_29 (tgt := 38) (by decide) (by omega) (fun g5 => ?_) (fun g6 => ?_)
      · refine k_gets (i0 := 4) C (by simp [stAll]) q298 dX1_kindOf_38 ?_
        have e : κ = 3 := by omega
        subst e
        exact k_aret C (Or.inl ⟨_, rfl⟩) E dX1_kindOf_41 (by omega) ⟨by omega, rfl, rfl⟩
      · subst g6
        refine k_gets (i0 := 3) C (by simp [stAll]) q296 dX1_kindOf_32 ?_
        refine k_goto C dX1_kindOf_35 (tgt := 41) (by decide) ?_
        exact k_aret C (Or.inl ⟨_, rfl⟩) E dX1_kindOf_41 (by omega) ⟨by omega, rfl, rfl⟩
    · subst g4
      refine k_gets (i0 := 2) C (by simp [stAll]) q294 dX1_kindOf_21 ?_
      refine k_goto C dX1_kindOf_24 (tgt := 41) (by decide) ?_
      exact k_aret C (Or.inl ⟨_, rfl⟩) E dX1_kindOf_41 (by omega) ⟨by omega, rfl, rfl⟩
  · subst g2
    refine k_gets (i0 := 1) C (by simp [stAll]) q163 dX1_kindOf_10 ?_
    refine k_goto C dX1_kindOf_13 (tgt := 41) (by decide) ?_
    exact k_aret C (Or.inl ⟨_, rfl⟩) E dX1_kindOf_41 (by omega) ⟨by omega, rfl, rfl⟩
/-- the least window that proves it; -1 if none does -/
def gramNow (T : Tb) : Int := if gramB T 1 then 1 else if gramB T 2 then 2 else if gramB T 3 then 3 else -1
theorem c_gramNow {w : Wd} {h : Hp} {t lst ar0 : Nat} {T : Tb} (G : isTb w h t lst ar0 T) (hT : TbOk T) : Ct w yX1_gramNow (ws_ yX1_gramNow cX1_gramNow 2 (some FieldType.int)) 11 284 12 1602 [.ref t] h (fun v h' => v = some (jI (gramNow T)) ∧ Ext h h') NoX := by
  refine Ct.of (by decide) [some (.ref t), none] rfl (Nat.le_of_ble_eq_true rfl) (fun K C E N0 => ?_)
  generalize hres : gramNow T = res at *
  unfold gramNow at hres
  have step : ∀ (i : Nat) (hh : Hp) (n k : Nat), 1 ≤ i → i ≤ 3 → n ≤ 4 * (i - 1) → k ≤ 534 * (i - 1) → Ext h hh → (gramB T i = true → (i : Int) = res) → (gramB T i = false → ∀ h2 : Hp, Ext h h2 → Wk w K h2 (4 * i) (534 * i) 2 [some (.ref t), some (jI ((i + 1 : Nat) : Int))] []) → Wk w K hh n k 2 [some (.ref t), some (jI (i : Nat))] [] := by
    intro i hh n k h1 h2 h3 h4 h5 h6 h7
    refine Wk.wf fun _ _ _ hc => ?_
    have hk := hc.2.2.2.2.1
    refine k_iload_n C dX1_gramNow_2 rfl ?_
    refine k_iconst C dX1_gramNow_3 ?_
    refine k_icmp_gt C dX1_gramNow_4 (tgt := 27) (by decide) (by omega) (fun g1 => ?_) (fun g2 => ?_)
    · omega
    · refine k_gets (i0 := 4) C (by simp [stAll]) q298 dX1_gramNow_7 ?_
      refine k_aload_n C dX1_gramNow_10 rfl ?_
      refine k_iload_n C dX1_gramNow_11 rfl ?_
      refine k_iconst C dX1_gramNow_12 ?_
      refine kx_C C rfl mc_X1_279_20 dX1_gramNow_13 ((c_gramTakes ⟨h1, h2⟩ (G.ext h5) hT)) (by assumption) rfl rfl (Nat.le_of_ble_eq_true rfl) ⟨(Nat.le_of_ble_eq_true rfl), (Nat.le_of_ble_eq_true rfl)⟩ (by omega) (fun v k1 hp_ => ?_) (fun _ _ hx => hx.elim)
      obtain ⟨rfl, E1⟩ := hp_
      refine k_ifeq_b C dX1_gramNow_16 (tgt := 21) (by decide) (fun g3 => ?_) (fun g4 => ?_)
      · refine k_iinc C dX1_gramNow_21 rfl rfl ?_
        refine k_goto C dX1_gramNow_24 (tgt := 2) (by decide) ?_
        exact (h7 g3 k1 (h5.trans E1)).widen (by omega) (by omega)
      · refine k_iload_n C dX1_gramNow_19 rfl ?_
        rw [h6 g4]
        exact k_iret C E dX1_gramNow_20 (by omega) ⟨rfl, h5.trans E1⟩
  refine k_iconst C dX1_gramNow_0 ?_
  refine k_istore_n C dX1_gramNow_1 (Nat.le_of_ble_eq_true rfl) rfl ?_
  refine step 1 h 0 0 (by omega) (by omega) (by omega) (by omega) (Ext.refl h) (fun z => by rw [if_pos z] at hres; exact hres) (fun z1 h2 E2 => ?_)
  rw [if_neg (by rw [z1]; decide)] at hres
  refine step 2 h2 _ _ (by omega) (by omega) (by omega) (by omega) E2 (fun z => by rw [if_pos z] at hres; exact hres) (fun z2 h3 E3 => ?_)
  rw [if_neg (by rw [z2]; decide)] at hres
  refine step 3 h3 _ _ (by omega) (by omega) (by omega) (by omega) E3 (fun z => by rw [if_pos z] at hres; exact hres) (fun z3 h4 E4 => ?_)
  rw [if_neg (by rw [z3]; decide)] at hres
  refine k_iload_n C dX1_gramNow_2 rfl ?_
  refine k_iconst C dX1_gramNow_3 ?_
  refine k_icmp_gt C dX1_gramNow_4 (tgt := 27) (by decide) (by omega) (fun g1 => ?_) (fun g2 => ?_)
  · refine k_iconst C dX1_gramNow_27 ?_
    rw [hres]
    exact k_iret C E dX1_gramNow_28 (by omega) ⟨rfl, E4⟩
  · omega
