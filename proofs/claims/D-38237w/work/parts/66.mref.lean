/-! ===== the model: is an amendment refused ===== -/
set_option maxRecDepth 100000
/-- why a cell is not put: 0, it is -/
def refK (σ : Sg) (i t b y v x : Int) (fl : Bool) : Nat := if cellOk σ i t b then (if (0 ≤ y ∧ y ≤ 1) ∧ (v = 1 ∨ v = -1) ∧ (0 ≤ x ∧ x ≤ ((σ.ms i.toNat).1.1 : Nat)) then (if ((σ.ms i.toNat).1.2 (2 * t + b)).isNone = fl then 0 else 3) else 2) else 1
theorem c_mRefused {w : Wd} {h : Hp} {m : Nat} {L : ML} {σ : Sg} {th i t b y v x : Int} {fl : Bool} {s : Int64} (H : isMo w h m L σ th s) (hσ : SgOk σ) (hi : i32 i) (ht : i32 t) (hb : i32 b) (hy : i32 y) (hv : i32 v) (hx : i32 x) : Ct w yX3_refused (ws_ yX3_refused cX3_refused 9 (some FieldType.int)) 3 64 0 0 [.ref m, jI i, jI t, jI b, jI y, jI v, jI x, jI (b2i fl)] h (fun r h' => r = some (jI (refK σ i t b y v x fl : Nat)) ∧ h' = h) NoX := by
  have hm := H.1
  have ht' := ht
  have hb' := hb
  unfold i32 at ht' hb' hy hv hx
  unfold refK
  have bt : b2i true = 1 := rfl
  have bf : b2i false = 0 := rfl
  refine Ct.of (by decide) [some (.ref m), some (jI i), some (jI t), some (jI b), some (jI y), some (jI v), some (jI x), some (jI (b2i fl)), none] rfl (Nat.le_of_ble_eq_true rfl) (fun K C E N0 => ?_)
  have no : cellOk σ i t b = false → Wk w K h 0 0 41 [some (.ref m), some (jI i), some (jI t), some (jI b), some (jI y), some (jI v), some (jI x), some (jI (b2i fl)), none] [] := by
    intro z
    rw [z] at E
    refine k_iconst C dX3_refused_41 ?_
    exact k_iret C E dX3_refused_42 (by omega) ⟨rfl, rfl⟩
  refine k_aload_n C dX3_refused_0 rfl ?_
  refine k_iload_n C dX3_refused_1 rfl ?_
  refine kx_V C rfl mv_X3_44 dX3_refused_2 ((c_mIsMachine H hσ hi)) (by assumption) rfl rfl (Nat.le_of_ble_eq_true rfl) ⟨(Nat.le_of_ble_eq_true rfl), (Nat.le_of_ble_eq_true rfl)⟩ (by omega) (fun v k1 hp_ => ?_) (fun _ _ hx => hx.elim)
  obtain ⟨rfl, rfl⟩ := hp_
  cases hok : mchOk σ i with
  | false =>
    refine k_ifeq_b C dX3_refused_5 (tgt := 41) (by decide) (fun _ => ?_) (fun z => by cases z)
    exact no (cellOk_m hok)
  | true =>
    refine k_ifeq_b C dX3_refused_5 (tgt := 41) (by decide) (fun z => by cases z) (fun _ => ?_)
    obtain ⟨f, A, hin, hf, M⟩ := H.at hok
    have mok := hσ.2.2.1 i.toNat (by omega)
    have hT2 := mok.1.2.1
    have l1 := A.1
    have M1 := M.1
    refine k_iload_n C dX3_refused_8 rfl ?_
    refine k_iconst C dX3_refused_9 ?_
    refine k_aload_n C dX3_refused_10 rfl ?_
    refine k_get C fg_X3_10 dX3_refused_11 (by assumption) (by rfl) ?_
    refine k_iload_n C dX3_refused_14 rfl ?_
    refine kx_V C rfl mv_X3_48 dX3_refused_15 ((c_get A hin hf)) (by assumption) rfl rfl (Nat.le_of_ble_eq_true rfl) ⟨(Nat.le_of_ble_eq_true rfl), (Nat.le_of_ble_eq_true rfl)⟩ (by omega) (fun v k1 hp_ => ?_) (fun _ _ hx => hx.elim)
    obtain ⟨rfl, rfl⟩ := hp_
    refine k_castO C ck_X3_35_5 dX3_refused_18 (by assumption) ?_
    refine k_getN C fn_X3_52 dX3_refused_21 (by assumption) (by rfl) ?_
    refine k_iconst C dX3_refused_24 ?_
    refine k_isub C dX3_refused_25 ?_
    refine kx_S C rfl ms_X3_27 dX3_refused_26 ((c_is (v := t) (a := 0) (b := ((σ.ms i.toNat).1.1 : Int) - 1) (by unfold i32; omega))) rfl rfl (Nat.le_of_ble_eq_true rfl) ⟨(Nat.le_of_ble_eq_true rfl), (Nat.le_of_ble_eq_true rfl)⟩ (by omega) (fun v k1 hp_ => ?_) (fun _ _ hx => hx.elim)
    obtain ⟨rfl, rfl⟩ := hp_
    by_cases h1t : 0 ≤ t ∧ t ≤ ((σ.ms i.toNat).1.1 : Int) - 1
    · rw [decide_eq_true h1t]
      refine k_ifeq_b C dX3_refused_29 (tgt := 41) (by decide) (fun z => by cases z) (fun _ => ?_)
      refine k_iload_n C dX3_refused_32 rfl ?_
      refine k_iconst C dX3_refused_33 ?_
      refine k_iconst C dX3_refused_34 ?_
      refine kx_S C rfl ms_X3_27 dX3_refused_35 ((c_is (v := b) (a := 0) (b := 1) (by unfold i32; omega))) rfl rfl (Nat.le_of_ble_eq_true rfl) ⟨(Nat.le_of_ble_eq_true rfl), (Nat.le_of_ble_eq_true rfl)⟩ (by omega) (fun v k1 hp_ => ?_) (fun _ _ hx => hx.elim)
      obtain ⟨rfl, rfl⟩ := hp_
      by_cases h2b : 0 ≤ b ∧ b ≤ 1
      · rw [decide_eq_true h2b]
        refine k_ifne_b C dX3_refused_38 (tgt := 43) (by decide) (fun _ => ?_) (fun z => by cases z)
        have yes : cellOk σ i t b = true := decide_eq_true (by omega)
        rw [yes, if_pos rfl] at E
        refine k_aload_n C dX3_refused_43 rfl ?_
        refine k_get C fg_X3_10 dX3_refused_44 (by assumption) (by rfl) ?_
        refine k_iload_n C dX3_refused_47 rfl ?_
        refine kx_V C rfl mv_X3_48 dX3_refused_48 ((c_get A hin hf)) (by assumption) rfl rfl (Nat.le_of_ble_eq_true rfl) ⟨(Nat.le_of_ble_eq_true rfl), (Nat.le_of_ble_eq_true rfl)⟩ (by omega) (fun v k1 hp_ => ?_) (fun _ _ hx => hx.elim)
        obtain ⟨rfl, rfl⟩ := hp_
        have two : ¬ ((0 ≤ y ∧ y ≤ 1) ∧ (v = 1 ∨ v = -1) ∧ (0 ≤ x ∧ x ≤ ((σ.ms i.toNat).1.1 : Nat))) → Wk w K k1 0 0 92 [some (.ref m), some (jI i), some (jI t), some (jI b), some (jI y), some (jI v), some (jI x), some (jI (b2i fl)), some (.ref (L.A i.toNat).1)] [] := by
          intro z
          rw [if_neg z] at E
          refine k_iconst C dX3_refused_92 ?_
          exact k_iret C E dX3_refused_93 (by omega) ⟨rfl, rfl⟩
        refine k_castO C ck_X3_35_5 dX3_refused_51 (by assumption) ?_
        refine k_astore C dX3_refused_54 (Nat.le_of_ble_eq_true rfl) rfl ?_
        refine k_iload C dX3_refused_56 rfl ?_
        refine k_iconst C dX3_refused_58 ?_
        refine k_iconst C dX3_refused_59 ?_
        refine kx_S C rfl ms_X3_27 dX3_refused_60 ((c_is (v := y) (a := 0) (b := 1) (by unfold i32; omega))) rfl rfl (Nat.le_of_ble_eq_true rfl) ⟨(Nat.le_of_ble_eq_true rfl), (Nat.le_of_ble_eq_true rfl)⟩ (by omega) (fun v k1 hp_ => ?_) (fun _ _ hx => hx.elim)
        obtain ⟨rfl, rfl⟩ := hp_
        by_cases h3 : 0 ≤ y ∧ y ≤ 1
        · rw [decide_eq_true h3]
          refine k_ifeq_b C dX3_refused_63 (tgt := 92) (by decide) (fun z => by cases z) (fun _ => ?_)
          have tail : (v = 1 ∨ v = -1) → Wk w K k1 0 0 78 [some (.ref m), some (jI i), some (jI t), some (jI b), some (jI y), some (jI v), some (jI x), some (jI (b2i fl)), some (.ref (L.A i.toNat).1)] [] := by
            intro h4
            refine k_iload C dX3_refused_78 rfl ?_
            refine k_iconst C dX3_refused_80 ?_
            refine k_aload C dX3_refused_81 rfl ?_
            refine k_getN C fn_X3_52 dX3_refused_83 (by assumption) (by rfl) ?_
            refine kx_S C rfl ms_X3_27 dX3_refused_86 ((c_is (v := x) (a := 0) (b := ((σ.ms i.toNat).1.1 : Nat)) (by unfold i32; omega))) rfl rfl (Nat.le_of_ble_eq_true rfl) ⟨(Nat.le_of_ble_eq_true rfl), (Nat.le_of_ble_eq_true rfl)⟩ (by omega) (fun v' k1 hp_ => ?_) (fun _ _ hx => hx.elim)
            obtain ⟨rfl, rfl⟩ := hp_
            by_cases h5 : 0 ≤ x ∧ x ≤ ((σ.ms i.toNat).1.1 : Nat)
            · rw [decide_eq_true h5]
              refine k_ifne_b C dX3_refused_89 (tgt := 94) (by decide) (fun _ => ?_) (fun z => by cases z)
              rw [if_pos ⟨h3, h4, h5⟩] at E
              obtain ⟨-, fc, M2, M3⟩ := id M
              have c3 := M3 (2 * t + b) (by omega) (by omega)
              refine k_aload C dX3_refused_94 rfl ?_
              refine k_iload_n C dX3_refused_96 rfl ?_
              refine k_iload_n C dX3_refused_97 rfl ?_
              refine kx_V C rfl mv_X3_55 dX3_refused_98 ((c_mdCell M1 M2 (by omega) (by omega) (by omega))) (by assumption) rfl rfl (Nat.le_of_ble_eq_true rfl) ⟨(Nat.le_of_ble_eq_true rfl), (Nat.le_of_ble_eq_true rfl)⟩ (by omega) (fun v' k1 hp_ => ?_) (fun _ _ hx => hx.elim)
              obtain ⟨rfl, rfl⟩ := hp_
              cases hc : (σ.ms i.toNat).1.2 (2 * t + b) with
              | none =>
                rw [hc] at c3 E
                have c3' : fc (2 * t + b) = none := c3
                rw [c3']
                refine k_ifnonnullN C dX3_refused_101 ?_
                refine k_iconst C dX3_refused_104 ?_
                refine k_goto C dX3_refused_105 (tgt := 109) (by decide) ?_
                refine k_iload C dX3_refused_109 rfl ?_
                cases fl with
                | true =>
                  refine k_icmp_ne C dX3_refused_111 (tgt := 118) (by decide) (by omega) (fun g1 => ?_) (fun g2 => ?_)
                  · omega
                  · refine k_iconst C dX3_refused_114 ?_
                    refine k_goto C dX3_refused_115 (tgt := 119) (by decide) ?_
                    exact k_iret C E dX3_refused_119 (by omega) ⟨rfl, rfl⟩
                | false =>
                  refine k_icmp_ne C dX3_refused_111 (tgt := 118) (by decide) (by omega) (fun g1 => ?_) (fun g2 => ?_)
                  · refine k_iconst C dX3_refused_118 ?_
                    exact k_iret C E dX3_refused_119 (by omega) ⟨rfl, rfl⟩
                  · omega
              | some r =>
                rw [hc] at c3 E
                obtain ⟨p, g, z1, -⟩ := c3
                rw [z1]
                refine k_ifnonnull C dX3_refused_101 (tgt := 108) (by decide) ?_
                refine k_iconst C dX3_refused_108 ?_
                refine k_iload C dX3_refused_109 rfl ?_
                cases fl with
                | true =>
                  refine k_icmp_ne C dX3_refused_111 (tgt := 118) (by decide) (by omega) (fun g1 => ?_) (fun g2 => ?_)
                  · refine k_iconst C dX3_refused_118 ?_
                    exact k_iret C E dX3_refused_119 (by omega) ⟨rfl, rfl⟩
                  · omega
                | false =>
                  refine k_icmp_ne C dX3_refused_111 (tgt := 118) (by decide) (by omega) (fun g1 => ?_) (fun g2 => ?_)
                  · omega
                  · refine k_iconst C dX3_refused_114 ?_
                    refine k_goto C dX3_refused_115 (tgt := 119) (by decide) ?_
                    exact k_iret C E dX3_refused_119 (by omega) ⟨rfl, rfl⟩
            · rw [decide_eq_false h5]
              refine k_ifne_b C dX3_refused_89 (tgt := 94) (by decide) (fun z => by cases z) (fun _ => ?_)
              exact two (fun z => h5 z.2.2)
          refine k_iload C dX3_refused_66 rfl ?_
          refine k_iconst C dX3_refused_68 ?_
          refine k_icmp_eq C dX3_refused_69 (tgt := 78) (by decide) (by omega) (fun g1 => ?_) (fun g2 => ?_)
          · exact tail (Or.inl g1)
          · refine k_iload C dX3_refused_72 rfl ?_
            refine k_iconst C dX3_refused_74 ?_
            refine k_icmp_ne C dX3_refused_75 (tgt := 92) (by decide) (by omega) (fun g3 => ?_) (fun g4 => ?_)
            · exact two (fun z => by omega)
            · exact tail (Or.inr (by omega))
        · rw [decide_eq_false h3]
          refine k_ifeq_b C dX3_refused_63 (tgt := 92) (by decide) (fun _ => ?_) (fun z => by cases z)
          exact two (fun z => h3 z.1)
      · rw [decide_eq_false h2b]
        refine k_ifne_b C dX3_refused_38 (tgt := 43) (by decide) (fun z => by cases z) (fun _ => ?_)
        exact no (decide_eq_false (fun z => h2b (by omega)))
    · rw [decide_eq_false h1t]
      refine k_ifeq_b C dX3_refused_29 (tgt := 41) (by decide) (fun _ => ?_) (fun z => by cases z)
      exact no (decide_eq_false (fun z => h1t (by omega)))
