/-! ===== the model's machines and runs ===== -/
set_option maxRecDepth 100000
/-- a rule as three ints; nothing as null -/
def isC (h : Hp) (p : Option Nat) (r : Option Ru) : Prop := match r with
  | none => p = none
  | some r => ∃ (a : Nat) (g : Int → Int), p = some a ∧ h.2 a = some (aI 0 3 g) ∧ g 0 = r.1 ∧ g 1 = r.2.1 ∧ g 2 = r.2.2
theorem isC.ext {h h' : Hp} {p : Option Nat} {r : Option Ru} (E : Ext h h') (H : isC h p r) : isC h' p r := by
  cases r with
  | none => exact H
  | some r =>
    obtain ⟨a, g, h1, h2, h3⟩ := H
    exact ⟨a, g, h1, E.2 _ _ h2, h3⟩
/-- the model's machine at a, its cells at cs; its kind's number, what its certificate tells -/
def isMd (h : Hp) (a cs : Nat) (T : Tb) (kv av bv : Int) : Prop := h.2 a = some (.inl (5, [jI (T.1 : Nat), .ref cs, jI kv, jI av, jI bv])) ∧ ∃ f : Int → Option Nat, h.2 cs = some (aR 5 (2 * T.1) f) ∧ ∀ k : Int, 0 ≤ k → k < (2 * T.1 : Nat) → isC h (f k) (T.2 k)
theorem isMd.ext {h h' : Hp} {a cs : Nat} {T : Tb} {kv av bv : Int} (E : Ext h h') (H : isMd h a cs T kv av bv) : isMd h' a cs T kv av bv := by
  obtain ⟨h1, f, h2, h3⟩ := H
  exact ⟨E.2 _ _ h1, f, E.2 _ _ h2, fun k k0 k1 => (h3 k k0 k1).ext E⟩
theorem c_is {w : Wd} {h : Hp} {v a b : Int} (hr : i32 v ∧ i32 a ∧ i32 b) : Ct w yX3_is (ws_ yX3_is cX3_is 3 (some FieldType.boolean)) 0 0 0 0 [jI v, jI a, jI b] h (fun r h' => r = some (jI (b2i (decide (a ≤ v ∧ v ≤ b)))) ∧ h' = h) NoX := by
  unfold i32 at hr
  refine Ct.of (by decide) [some (jI v), some (jI a), some (jI b)] rfl (Nat.le_of_ble_eq_true rfl) (fun K C E N0 => ?_)
  refine k_iload_n C dX3_is_0 rfl ?_
  refine k_iload_n C dX3_is_1 rfl ?_
  refine k_icmp_lt C dX3_is_2 (tgt := 14) (by decide) (by omega) (fun g1 => ?_) (fun g2 => ?_)
  · refine k_iconst C dX3_is_14 ?_
    exact k_zret (b := false) C E dX3_is_15 (by omega) ⟨by rw [decide_eq_false (by omega)], rfl⟩
  · refine k_iload_n C dX3_is_5 rfl ?_
    refine k_iload_n C dX3_is_6 rfl ?_
    refine k_icmp_gt C dX3_is_7 (tgt := 14) (by decide) (by omega) (fun g3 => ?_) (fun g4 => ?_)
    · refine k_iconst C dX3_is_14 ?_
      exact k_zret (b := false) C E dX3_is_15 (by omega) ⟨by rw [decide_eq_false (by omega)], rfl⟩
    · refine k_iconst C dX3_is_10 ?_
      refine k_goto C dX3_is_11 (tgt := 15) (by decide) ?_
      exact k_zret (b := true) C E dX3_is_15 (by omega) ⟨by rw [decide_eq_true (by omega)], rfl⟩
theorem c_mdCell {w : Wd} {h : Hp} {a cs : Nat} {T : Tb} {kv av bv s b : Int} {f : Int → Option Nat} (h1 : h.2 a = some (.inl (5, [jI (T.1 : Nat), .ref cs, jI kv, jI av, jI bv]))) (h2 : h.2 cs = some (aR 5 (2 * T.1) f)) (hT : T.1 ≤ 4) (hs : 0 ≤ s ∧ s < T.1) (hb : 0 ≤ b ∧ b ≤ 1) : Ct w yX6_cell (ws_ yX6_cell cX6_cell 3 (some (FieldType.array FieldType.int))) 0 0 0 0 [.ref a, jI s, jI b] h (fun v h' => v = some (rf (f (2 * s + b))) ∧ h' = h) NoX := by
  refine Ct.of (by decide) [some (.ref a), some (jI s), some (jI b)] rfl (Nat.le_of_ble_eq_true rfl) (fun K C E N0 => ?_)
  refine k_aload_n C dX6_cell_0 rfl ?_
  refine k_get C fg_X6_26 dX6_cell_1 (by assumption) (by rfl) ?_
  refine k_iconst C dX6_cell_4 ?_
  refine k_iload_n C dX6_cell_5 rfl ?_
  refine k_imul C dX6_cell_6 ?_
  refine k_iload_n C dX6_cell_7 rfl ?_
  refine k_iadd C dX6_cell_8 ?_
  refine k_aald C dX6_cell_9 (by assumption) (by rfl) (by rfl) (by omega) rfl ?_
  exact k_aretR C (Or.inr ⟨_, rfl⟩) E dX6_cell_10 (by omega) ⟨rfl, rfl⟩
theorem c_mdEmpty {w : Wd} {h : Hp} {a cs : Nat} {T : Tb} {kv av bv : Int} (H : isMd h a cs T kv av bv) (hT : T.1 ≤ 4) : Ct w yX6_empty (ws_ yX6_empty cX6_empty 6 (some FieldType.int)) 0 0 0 0 [.ref a] h (fun v h' => v = some (jI (cntE T (2 * T.1))) ∧ h' = h) NoX := by
  obtain ⟨h1, f, h2, h3⟩ := H
  refine Ct.of (by decide) [some (.ref a), none, none, none, none, none] rfl (Nat.le_of_ble_eq_true rfl) (fun K C E N0 => ?_)
  have loop : ∀ (d i : Nat), i + d = 2 * T.1 → Wk w K h 0 0 13 [some (.ref a), some (jI (cntE T i)), some (.ref cs), some (jI ((2 * T.1 : Nat) : Int)), some (jI (i : Nat)), none] [] := by
    intro d
    induction d with
    | zero =>
      intro i hi
      have hi' : i = 2 * T.1 := by omega
      subst hi'
      refine k_iload C dX6_empty_13 rfl ?_
      refine k_iload_n C dX6_empty_15 rfl ?_
      refine k_icmp_ge C dX6_empty_16 (tgt := 44) (by decide) (by omega) (fun g1 => ?_) (fun g2 => ?_)
      · refine k_iload_n C dX6_empty_44 rfl ?_
        exact k_iret C E dX6_empty_45 (by omega) ⟨rfl, rfl⟩
      · omega
    | succ d ih =>
      intro i hi
      have hc := h3 (i : Int) (by omega) (by omega)
      have ec : cntE T (i + 1) = cntE T i + (if (T.2 (i : Int)).isSome then 0 else 1) := rfl
      refine k_iload C dX6_empty_13 rfl ?_
      refine k_iload_n C dX6_empty_15 rfl ?_
      refine k_icmp_ge C dX6_empty_16 (tgt := 44) (by decide) (by omega) (fun g1 => ?_) (fun g2 => ?_)
      · omega
      · cases hr : T.2 (i : Int) with
        | none =>
          rw [hr] at hc ec
          have hf : f (i : Int) = none := hc
          refine k_aload_n C dX6_empty_19 rfl ?_
          refine k_iload C dX6_empty_20 rfl ?_
          refine k_aald C dX6_empty_22 (by assumption) (by rfl) (by rfl) (by omega) hf ?_
          refine k_astoreN C dX6_empty_23 (Nat.le_of_ble_eq_true rfl) rfl ?_
          refine k_iload_n C dX6_empty_25 rfl ?_
          refine k_aloadN C dX6_empty_26 rfl ?_
          refine k_ifnonnullN C dX6_empty_28 ?_
          refine k_iconst C dX6_empty_31 ?_
          refine k_goto C dX6_empty_32 (tgt := 36) (by decide) ?_
          refine k_iadd C dX6_empty_36 ?_
          refine k_istore_n C dX6_empty_37 (Nat.le_of_ble_eq_true rfl) rfl ?_
          refine k_iinc C dX6_empty_38 rfl rfl ?_
          refine k_goto C dX6_empty_41 (tgt := 13) (by decide) ?_
          rw [show cntE T i + 1 = cntE T (i + 1) from ec.symm]
          exact Wk.sub (by repeat (first | exact trivial | apply Lle.so | apply Lle.no)) (ih (i + 1) (by omega))
        | some r =>
          rw [hr] at hc ec
          obtain ⟨p, g, hf, hp, -⟩ := hc
          refine k_aload_n C dX6_empty_19 rfl ?_
          refine k_iload C dX6_empty_20 rfl ?_
          refine k_aald C dX6_empty_22 (by assumption) (by rfl) (by rfl) (by omega) hf ?_
          refine k_astore C dX6_empty_23 (Nat.le_of_ble_eq_true rfl) rfl ?_
          refine k_iload_n C dX6_empty_25 rfl ?_
          refine k_aload C dX6_empty_26 rfl ?_
          refine k_ifnonnull C dX6_empty_28 (tgt := 35) (by decide) ?_
          refine k_iconst C dX6_empty_35 ?_
          refine k_iadd C dX6_empty_36 ?_
          refine k_istore_n C dX6_empty_37 (Nat.le_of_ble_eq_true rfl) rfl ?_
          refine k_iinc C dX6_empty_38 rfl rfl ?_
          refine k_goto C dX6_empty_41 (tgt := 13) (by decide) ?_
          rw [show cntE T i + 0 = cntE T (i + 1) from ec.symm]
          exact Wk.sub (by repeat (first | exact trivial | apply Lle.so | apply Lle.no)) (ih (i + 1) (by omega))
  refine k_iconst C dX6_empty_0 ?_
  refine k_istore_n C dX6_empty_1 (Nat.le_of_ble_eq_true rfl) rfl ?_
  refine k_aload_n C dX6_empty_2 rfl ?_
  refine k_get C fg_X6_26 dX6_empty_3 (by assumption) (by rfl) ?_
  refine k_astore_n C dX6_empty_6 (Nat.le_of_ble_eq_true rfl) rfl ?_
  refine k_aload_n C dX6_empty_7 rfl ?_
  refine k_alen C dX6_empty_8 (by assumption) (by rfl) ?_
  refine k_istore_n C dX6_empty_9 (Nat.le_of_ble_eq_true rfl) rfl ?_
  refine k_iconst C dX6_empty_10 ?_
  refine k_istore C dX6_empty_11 (Nat.le_of_ble_eq_true rfl) rfl ?_
  exact loop (2 * T.1) 0 (by omega)
theorem c_mdTop {w : Wd} {h : Hp} {a cs : Nat} {T : Tb} {kv av bv : Int} (H : isMd h a cs T kv av bv) (hT : TbOk T) : Ct w yX6_top (ws_ yX6_top cX6_top 6 (some FieldType.int)) 1 40 0 0 [.ref a] h (fun v h' => v = some (jI (min ((T.1 : Int) - 1) (mostN T (2 * T.1) + 1))) ∧ h' = h) NoX := by
  obtain ⟨h1, f, h2, h3⟩ := H
  have hT2 := hT.2.1
  refine Ct.of (by decide) [some (.ref a), none, none, none, none, none] rfl (Nat.le_of_ble_eq_true rfl) (fun K C E N0 => ?_)
  have loop : ∀ (d i : Nat), i + d = 2 * T.1 → Wk w K h 0 0 13 [some (.ref a), some (jI (mostN T i)), some (.ref cs), some (jI ((2 * T.1 : Nat) : Int)), some (jI (i : Nat)), none] [] := by
    intro d
    induction d with
    | zero =>
      intro i hi
      have hi' : i = 2 * T.1 := by omega
      subst hi'
      have mb := mostN_b hT (2 * T.1) (Nat.le_refl _)
      refine k_iload C dX6_top_13 rfl ?_
      refine k_iload_n C dX6_top_15 rfl ?_
      refine k_icmp_ge C dX6_top_16 (tgt := 56) (by decide) (by omega) (fun g1 => ?_) (fun g2 => ?_)
      · refine k_aload_n C dX6_top_56 rfl ?_
        refine k_get C fg_X6_21 dX6_top_57 (by assumption) (by rfl) ?_
        refine k_iconst C dX6_top_60 ?_
        refine k_isub C dX6_top_61 ?_
        refine k_iload_n C dX6_top_62 rfl ?_
        refine k_iconst C dX6_top_63 ?_
        refine k_iadd C dX6_top_64 ?_
        refine k_min C rfl q1414 dX6_top_65 (by omega) ⟨(Nat.le_of_ble_eq_true rfl), (Nat.le_of_ble_eq_true rfl)⟩ (by omega) ?_
        exact k_iret C E dX6_top_68 (by omega) ⟨rfl, rfl⟩
      · omega
    | succ d ih =>
      intro i hi
      have hc := h3 (i : Int) (by omega) (by omega)
      have mb := mostN_b hT i (by omega)
      refine k_iload C dX6_top_13 rfl ?_
      refine k_iload_n C dX6_top_15 rfl ?_
      refine k_icmp_ge C dX6_top_16 (tgt := 56) (by decide) (by omega) (fun g1 => ?_) (fun g2 => ?_)
      · omega
      · cases hr : T.2 (i : Int) with
        | none =>
          rw [hr] at hc
          have hf : f (i : Int) = none := hc
          refine k_aload_n C dX6_top_19 rfl ?_
          refine k_iload C dX6_top_20 rfl ?_
          refine k_aald C dX6_top_22 (by assumption) (by rfl) (by rfl) (by omega) hf ?_
          refine k_astoreN C dX6_top_23 (Nat.le_of_ble_eq_true rfl) rfl ?_
          refine k_aloadN C dX6_top_25 rfl ?_
          refine k_ifnullN C dX6_top_27 (tgt := 50) (by decide) ?_
          refine k_iinc C dX6_top_50 rfl rfl ?_
          refine k_goto C dX6_top_53 (tgt := 13) (by decide) ?_
          rw [show mostN T i = mostN T (i + 1) from (mostN_none hr).symm]
          exact Wk.sub (by repeat (first | exact trivial | apply Lle.so | apply Lle.no)) (ih (i + 1) (by omega))
        | some r =>
          rw [hr] at hc
          obtain ⟨p, g, hf, hp, g0, g1', g2'⟩ := hc
          obtain ⟨u1, u2, u3, u4⟩ := hT.2.2 _ r (by omega) (by omega) hr
          refine k_aload_n C dX6_top_19 rfl ?_
          refine k_iload C dX6_top_20 rfl ?_
          refine k_aald C dX6_top_22 (by assumption) (by rfl) (by rfl) (by omega) hf ?_
          refine k_astore C dX6_top_23 (Nat.le_of_ble_eq_true rfl) rfl ?_
          refine k_aload C dX6_top_25 rfl ?_
          refine k_ifnull C dX6_top_27 ?_
          refine k_aload C dX6_top_30 rfl ?_
          refine k_iconst C dX6_top_32 ?_
          refine k_iald C dX6_top_33 (by assumption) (by rfl) (by omega) ?_
          rw [g2']
          refine k_aload_n C dX6_top_34 rfl ?_
          refine k_get C fg_X6_21 dX6_top_35 (by assumption) (by rfl) ?_
          refine k_icmp_ge C dX6_top_38 (tgt := 50) (by decide) (by omega) (fun g3 => ?_) (fun g4 => ?_)
          · refine k_iinc C dX6_top_50 rfl rfl ?_
            refine k_goto C dX6_top_53 (tgt := 13) (by decide) ?_
            rw [show mostN T i = mostN T (i + 1) by rw [mostN_some hr, if_neg (by omega)]]
            exact Wk.sub (by repeat (first | exact trivial | apply Lle.so | apply Lle.no)) (ih (i + 1) (by omega))
          · refine k_iload_n C dX6_top_41 rfl ?_
            refine k_aload C dX6_top_42 rfl ?_
            refine k_iconst C dX6_top_44 ?_
            refine k_iald C dX6_top_45 (by assumption) (by rfl) (by omega) ?_
            rw [g2']
            refine k_max C rfl q1413 dX6_top_46 (by omega) ⟨(Nat.le_of_ble_eq_true rfl), (Nat.le_of_ble_eq_true rfl)⟩ (by omega) ?_
            refine k_istore_n C dX6_top_49 (Nat.le_of_ble_eq_true rfl) rfl ?_
            refine k_iinc C dX6_top_50 rfl rfl ?_
            refine k_goto C dX6_top_53 (tgt := 13) (by decide) ?_
            rw [show max (mostN T i) r.2.2 = mostN T (i + 1) by rw [mostN_some hr, if_pos (by omega)]]
            exact Wk.sub (by repeat (first | exact trivial | apply Lle.so | apply Lle.no)) (ih (i + 1) (by omega))
  refine k_iconst C dX6_top_0 ?_
  refine k_istore_n C dX6_top_1 (Nat.le_of_ble_eq_true rfl) rfl ?_
  refine k_aload_n C dX6_top_2 rfl ?_
  refine k_get C fg_X6_26 dX6_top_3 (by assumption) (by rfl) ?_
  refine k_astore_n C dX6_top_6 (Nat.le_of_ble_eq_true rfl) rfl ?_
  refine k_aload_n C dX6_top_7 rfl ?_
  refine k_alen C dX6_top_8 (by assumption) (by rfl) ?_
  refine k_istore_n C dX6_top_9 (Nat.le_of_ble_eq_true rfl) rfl ?_
  refine k_iconst C dX6_top_10 ?_
  refine k_istore C dX6_top_11 (Nat.le_of_ble_eq_true rfl) rfl ?_
  exact loop (2 * T.1) 0 (by omega)
