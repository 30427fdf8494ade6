/-! ===== the model: prove ===== -/
set_option maxRecDepth 100000
/-- whether a certificate is one -/
def certB (k a b : Int) : Bool := decide (0 ≤ k ∧ k ≤ 3) && fitB k a b
/-- whether it is taken -/
def takenB (T : Tb) (k a b : Int) : Bool := if k = 0 then stopTakes T a.toNat else if k = 1 then cycB T a.toNat b.toNat else if k = 2 then backTakes T a.toNat else gramB T a.toNat
theorem c_mIsCert {w : Wd} {h : Hp} {k a b : Int} (hk : i32 k) (ha : i32 a) (hb : i32 b) : Ct w yX3_isCertificate (ws_ yX3_isCertificate cX3_isCertificate 3 (some FieldType.boolean)) 1 22 0 0 [jI k, jI a, jI b] h (fun v h' => v = some (jI (b2i (certB k a b))) ∧ h' = h) NoX := by
  unfold i32 at hk ha hb
  refine Ct.of (by decide) [some (jI k), some (jI a), some (jI b)] rfl (Nat.le_of_ble_eq_true rfl) (fun K C E N0 => ?_)
  refine k_iload_n C dX3_isCertificate_0 rfl ?_
  by_cases hin : 0 ≤ k ∧ k ≤ 3
  · obtain rfl | rfl | rfl | rfl : k = 0 ∨ k = 1 ∨ k = 2 ∨ k = 3 := by omega
    · rw [show certB 0 a b = decide (1 ≤ a ∧ a ≤ 500 ∧ b = 0) from rfl] at E
      refine k_tswIn (x := 0) (tgt := 32) C dX3_isCertificate_1 (by decide) (by decide) (by decide) rfl (by decide) ?_
      have no : ¬ (1 ≤ a ∧ a ≤ 500 ∧ b = 0) → Wk w K h 0 0 51 [some (jI 0), some (jI a), some (jI b)] [] := by
        intro z
        refine k_iconst C dX3_isCertificate_51 ?_
        exact k_zret (b := false) C E dX3_isCertificate_52 (by omega) ⟨by rw [decide_eq_false z], rfl⟩
      refine k_iload_n C dX3_isCertificate_32 rfl ?_
      refine k_iconst C dX3_isCertificate_33 ?_
      refine k_sipush C dX3_isCertificate_34 (by decide) ?_
      refine kx_S C rfl ms_X3_27 dX3_isCertificate_37 ((c_is (v := a) (a := 1) (b := 500) (by unfold i32; omega))) rfl rfl (Nat.le_of_ble_eq_true rfl) ⟨(Nat.le_of_ble_eq_true rfl), (Nat.le_of_ble_eq_true rfl)⟩ (by omega) (fun v k1 hp_ => ?_) (fun _ _ hx => hx.elim)
      obtain ⟨rfl, rfl⟩ := hp_
      by_cases h1 : 1 ≤ a ∧ a ≤ 500
      · rw [decide_eq_true h1]
        refine k_ifeq_b C dX3_isCertificate_40 (tgt := 51) (by decide) (fun z => by cases z) (fun _ => ?_)
        refine k_iload_n C dX3_isCertificate_43 rfl ?_
        refine k_if_ne C dX3_isCertificate_44 (tgt := 51) (by decide) (by omega) (fun g1 => ?_) (fun g2 => ?_)
        · exact no (fun z => g1 z.2.2)
        · refine k_iconst C dX3_isCertificate_47 ?_
          refine k_goto C dX3_isCertificate_48 (tgt := 52) (by decide) ?_
          exact k_zret (b := true) C E dX3_isCertificate_52 (by omega) ⟨by rw [decide_eq_true ⟨h1.1, h1.2, by omega⟩], rfl⟩
      · rw [decide_eq_false h1]
        refine k_ifeq_b C dX3_isCertificate_40 (tgt := 51) (by decide) (fun _ => ?_) (fun z => by cases z)
        exact no (fun z => h1 ⟨z.1, z.2.1⟩)
    · rw [show certB 1 a b = decide (0 ≤ a ∧ a ≤ 150 ∧ 1 ≤ b ∧ b ≤ 150) from rfl] at E
      refine k_tswIn (x := 1) (tgt := 53) C dX3_isCertificate_1 (by decide) (by decide) (by decide) rfl (by decide) ?_
      have no : ¬ (0 ≤ a ∧ a ≤ 150 ∧ 1 ≤ b ∧ b ≤ 150) → Wk w K h 0 0 79 [some (jI 1), some (jI a), some (jI b)] [] := by
        intro z
        refine k_iconst C dX3_isCertificate_79 ?_
        exact k_zret (b := false) C E dX3_isCertificate_80 (by omega) ⟨by rw [decide_eq_false z], rfl⟩
      refine k_iload_n C dX3_isCertificate_53 rfl ?_
      refine k_iconst C dX3_isCertificate_54 ?_
      refine k_sipush C dX3_isCertificate_55 (by decide) ?_
      refine kx_S C rfl ms_X3_27 dX3_isCertificate_58 ((c_is (v := a) (a := 0) (b := 150) (by unfold i32; omega))) rfl rfl (Nat.le_of_ble_eq_true rfl) ⟨(Nat.le_of_ble_eq_true rfl), (Nat.le_of_ble_eq_true rfl)⟩ (by omega) (fun v k1 hp_ => ?_) (fun _ _ hx => hx.elim)
      obtain ⟨rfl, rfl⟩ := hp_
      by_cases h1 : 0 ≤ a ∧ a ≤ 150
      · rw [decide_eq_true h1]
        refine k_ifeq_b C dX3_isCertificate_61 (tgt := 79) (by decide) (fun z => by cases z) (fun _ => ?_)
        refine k_iload_n C dX3_isCertificate_64 rfl ?_
        refine k_iconst C dX3_isCertificate_65 ?_
        refine k_sipush C dX3_isCertificate_66 (by decide) ?_
        refine kx_S C rfl ms_X3_27 dX3_isCertificate_69 ((c_is (v := b) (a := 1) (b := 150) (by unfold i32; omega))) rfl rfl (Nat.le_of_ble_eq_true rfl) ⟨(Nat.le_of_ble_eq_true rfl), (Nat.le_of_ble_eq_true rfl)⟩ (by omega) (fun v k1 hp_ => ?_) (fun _ _ hx => hx.elim)
        obtain ⟨rfl, rfl⟩ := hp_
        by_cases h2 : 1 ≤ b ∧ b ≤ 150
        · rw [decide_eq_true h2]
          refine k_ifeq_b C dX3_isCertificate_72 (tgt := 79) (by decide) (fun z => by cases z) (fun _ => ?_)
          refine k_iconst C dX3_isCertificate_75 ?_
          refine k_goto C dX3_isCertificate_76 (tgt := 80) (by decide) ?_
          exact k_zret (b := true) C E dX3_isCertificate_80 (by omega) ⟨by rw [decide_eq_true ⟨h1.1, h1.2, h2.1, h2.2⟩], rfl⟩
        · rw [decide_eq_false h2]
          refine k_ifeq_b C dX3_isCertificate_72 (tgt := 79) (by decide) (fun _ => ?_) (fun z => by cases z)
          exact no (fun z => h2 ⟨z.2.2.1, z.2.2.2⟩)
      · rw [decide_eq_false h1]
        refine k_ifeq_b C dX3_isCertificate_61 (tgt := 79) (by decide) (fun _ => ?_) (fun z => by cases z)
        exact no (fun z => h1 ⟨z.1, z.2.1⟩)
    · rw [show certB 2 a b = decide (1 ≤ a ∧ a ≤ 6 ∧ b = 0) from rfl] at E
      refine k_tswIn (x := 2) (tgt := 81) C dX3_isCertificate_1 (by decide) (by decide) (by decide) rfl (by decide) ?_
      have no : ¬ (1 ≤ a ∧ a ≤ 6 ∧ b = 0) → Wk w K h 0 0 99 [some (jI 2), some (jI a), some (jI b)] [] := by
        intro z
        refine k_iconst C dX3_isCertificate_99 ?_
        exact k_zret (b := false) C E dX3_isCertificate_100 (by omega) ⟨by rw [decide_eq_false z], rfl⟩
      refine k_iload_n C dX3_isCertificate_81 rfl ?_
      refine k_iconst C dX3_isCertificate_82 ?_
      refine k_bipush C dX3_isCertificate_83 (by decide) ?_
      refine kx_S C rfl ms_X3_27 dX3_isCertificate_85 ((c_is (v := a) (a := 1) (b := 6) (by unfold i32; omega))) rfl rfl (Nat.le_of_ble_eq_true rfl) ⟨(Nat.le_of_ble_eq_true rfl), (Nat.le_of_ble_eq_true rfl)⟩ (by omega) (fun v k1 hp_ => ?_) (fun _ _ hx => hx.elim)
      obtain ⟨rfl, rfl⟩ := hp_
      by_cases h1 : 1 ≤ a ∧ a ≤ 6
      · rw [decide_eq_true h1]
        refine k_ifeq_b C dX3_isCertificate_88 (tgt := 99) (by decide) (fun z => by cases z) (fun _ => ?_)
        refine k_iload_n C dX3_isCertificate_91 rfl ?_
        refine k_if_ne C dX3_isCertificate_92 (tgt := 99) (by decide) (by omega) (fun g1 => ?_) (fun g2 => ?_)
        · exact no (fun z => g1 z.2.2)
        · refine k_iconst C dX3_isCertificate_95 ?_
          refine k_goto C dX3_isCertificate_96 (tgt := 100) (by decide) ?_
          exact k_zret (b := true) C E dX3_isCertificate_100 (by omega) ⟨by rw [decide_eq_true ⟨h1.1, h1.2, by omega⟩], rfl⟩
      · rw [decide_eq_false h1]
        refine k_ifeq_b C dX3_isCertificate_88 (tgt := 99) (by decide) (fun _ => ?_) (fun z => by cases z)
        exact no (fun z => h1 ⟨z.1, z.2.1⟩)
    · rw [show certB 3 a b = decide (1 ≤ a ∧ a ≤ 3 ∧ b = 0) from rfl] at E
      refine k_tswIn (x := 3) (tgt := 101) C dX3_isCertificate_1 (by decide) (by decide) (by decide) rfl (by decide) ?_
      have no : ¬ (1 ≤ a ∧ a ≤ 3 ∧ b = 0) → Wk w K h 0 0 118 [some (jI 3), some (jI a), some (jI b)] [] := by
        intro z
        refine k_iconst C dX3_isCertificate_118 ?_
        exact k_zret (b := false) C E dX3_isCertificate_119 (by omega) ⟨by rw [decide_eq_false z], rfl⟩
      refine k_iload_n C dX3_isCertificate_101 rfl ?_
      refine k_iconst C dX3_isCertificate_102 ?_
      refine k_iconst C dX3_isCertificate_103 ?_
      refine kx_S C rfl ms_X3_27 dX3_isCertificate_104 ((c_is (v := a) (a := 1) (b := 3) (by unfold i32; omega))) rfl rfl (Nat.le_of_ble_eq_true rfl) ⟨(Nat.le_of_ble_eq_true rfl), (Nat.le_of_ble_eq_true rfl)⟩ (by omega) (fun v k1 hp_ => ?_) (fun _ _ hx => hx.elim)
      obtain ⟨rfl, rfl⟩ := hp_
      by_cases h1 : 1 ≤ a ∧ a ≤ 3
      · rw [decide_eq_true h1]
        refine k_ifeq_b C dX3_isCertificate_107 (tgt := 118) (by decide) (fun z => by cases z) (fun _ => ?_)
        refine k_iload_n C dX3_isCertificate_110 rfl ?_
        refine k_if_ne C dX3_isCertificate_111 (tgt := 118) (by decide) (by omega) (fun g1 => ?_) (fun g2 => ?_)
        · exact no (fun z => g1 z.2.2)
        · refine k_iconst C dX3_isCertificate_114 ?_
          refine k_goto C dX3_isCertificate_115 (tgt := 119) (by decide) ?_
          exact k_zret (b := true) C E dX3_isCertificate_119 (by omega) ⟨by rw [decide_eq_true ⟨h1.1, h1.2, by omega⟩], rfl⟩
      · rw [decide_eq_false h1]
        refine k_ifeq_b C dX3_isCertificate_107 (tgt := 118) (by decide) (fun _ => ?_) (fun z => by cases z)
        exact no (fun z => h1 ⟨z.1, z.2.1⟩)
  · refine k_tswOut C dX3_isCertificate_1 (tgt := 120) (by omega) (by omega) (by decide) ?_
    refine k_iconst C dX3_isCertificate_120 ?_
    exact k_zret (b := false) C E dX3_isCertificate_121 (by omega) ⟨by unfold certB; rw [decide_eq_false hin]; rfl, rfl⟩
theorem cert_b {k a b : Int} (h : certB k a b = true) : (k = 0 ∧ 1 ≤ a ∧ a ≤ 500 ∧ b = 0) ∨ (k = 1 ∧ 0 ≤ a ∧ a ≤ 150 ∧ 1 ≤ b ∧ b ≤ 150) ∨ (k = 2 ∧ 1 ≤ a ∧ a ≤ 6 ∧ b = 0) ∨ (k = 3 ∧ 1 ≤ a ∧ a ≤ 3 ∧ b = 0) := by
  unfold certB at h
  have h1 := of_decide_eq_true (Bool.and_eq_true_iff.mp h).1
  have h2 := (Bool.and_eq_true_iff.mp h).2
  obtain rfl | rfl | rfl | rfl : k = 0 ∨ k = 1 ∨ k = 2 ∨ k = 3 := by omega
  · have := of_decide_eq_true (show decide (1 ≤ a ∧ a ≤ 500 ∧ b = 0) = true from h2); omega
  · have := of_decide_eq_true (show decide (0 ≤ a ∧ a ≤ 150 ∧ 1 ≤ b ∧ b ≤ 150) = true from h2); omega
  · have := of_decide_eq_true (show decide (1 ≤ a ∧ a ≤ 6 ∧ b = 0) = true from h2); omega
  · have := of_decide_eq_true (show decide (1 ≤ a ∧ a ≤ 3 ∧ b = 0) = true from h2); omega
theorem c_mIsTaken {w : Wd} {h : Hp} {md cs : Nat} {T : Tb} {kv av bv k a b : Int} (hc : certB k a b = true) (G : isMd h md cs T kv av bv) (hT : TbOk T) : Ct w yX3_isTaken (ws_ yX3_isTaken cX3_isTaken 4 (some FieldType.boolean)) 11 284 400 3100 [.ref md, jI k, jI a, jI b] h (fun v h' => v = some (jI (b2i (takenB T k a b))) ∧ Ext h h') NoX := by
  have G1 := G.1
  rcases cert_b hc with ⟨rfl, hc⟩ | ⟨rfl, hc⟩ | ⟨rfl, hc⟩ | ⟨rfl, hc⟩
  · obtain ⟨A, rfl⟩ : ∃ A : Nat, a = (A : Int) := ⟨a.toNat, by omega⟩
    rw [show takenB T 0 (A : Nat) b = stopTakes T A from rfl]
    have r1 := runN_c0 hT A
    refine Ct.of (by decide) [some (.ref md), some (jI 0), some (jI (A : Nat)), some (jI b)] rfl (Nat.le_of_ble_eq_true rfl) (fun K C E N0 => ?_)
    refine k_iload_n C dX3_isTaken_0 rfl ?_
    refine k_if_ne C dX3_isTaken_1 (tgt := 33) (by decide) (by omega) (fun g1 => ?_) (fun g2 => ?_)
    · exact absurd rfl g1
    · refine k_aload_n C dX3_isTaken_4 rfl ?_
      refine k_iload_n C dX3_isTaken_5 rfl ?_
      refine kx_V C rfl mv_X3_81 dX3_isTaken_6 ((c_run (R := A) (by omega) G hT)) (by assumption) rfl rfl (Nat.le_of_ble_eq_true rfl) ⟨(Nat.le_of_ble_eq_true rfl), (Nat.le_of_ble_eq_true rfl)⟩ (by omega) (fun v h2 hp_ => ?_) (fun _ _ hx => hx.elim)
      obtain ⟨q, tp, rfl, q0, tp0, W2, E2⟩ := hp_
      have W21 := W2.1
      refine kx_V C rfl mv_X3_109 dX3_isTaken_9 ((c_rnStopped W2 (G.ext E2) hT r1.1)) (by assumption) rfl rfl (Nat.le_of_ble_eq_true rfl) ⟨(Nat.le_of_ble_eq_true rfl), (Nat.le_of_ble_eq_true rfl)⟩ (by omega) (fun v k3 hp_ => ?_) (fun _ _ hx => hx.elim)
      obtain ⟨rfl, rfl⟩ := hp_
      have no : stopTakes T A = false → ∀ (hh : Hp) (n k : Nat), Ext h hh → n ≤ 400 → k ≤ 3100 → Wk w K hh n k 31 [some (.ref md), some (jI 0), some (jI (A : Nat)), some (jI b)] [] := by
        intro z hh n k EE hn hk
        refine k_iconst C dX3_isTaken_31 ?_
        exact k_zret (b := false) C E dX3_isTaken_32 (by omega) ⟨by rw [z], EE⟩
      refine k_ifeq_b C dX3_isTaken_12 (tgt := 31) (by decide) (fun g3 => ?_) (fun g4 => ?_)
      · exact no (by unfold stopTakes; rw [g3]; rfl) _ _ _ E2 (by omega) (by omega)
      · have G21 := (G.ext E2).1
        refine k_aload_n C dX3_isTaken_15 rfl ?_
        refine k_iload_n C dX3_isTaken_16 rfl ?_
        refine kx_V C rfl mv_X3_81 dX3_isTaken_17 ((c_run (R := A) (by omega) (G.ext E2) hT)) (by assumption) rfl rfl (Nat.le_of_ble_eq_true rfl) ⟨(Nat.le_of_ble_eq_true rfl), (Nat.le_of_ble_eq_true rfl)⟩ (by omega) (fun v h4 hp_ => ?_) (fun _ _ hx => hx.elim)
        obtain ⟨q4, tp4, rfl, q04, tp04, W4, E4⟩ := hp_
        have W41 := W4.1
        refine k_getN C fn_X3_112 dX3_isTaken_20 (by assumption) (by rfl) ?_
        refine k_iload_n C dX3_isTaken_23 rfl ?_
        refine k_icmp_ne C dX3_isTaken_24 (tgt := 31) (by decide) (by omega) (fun g5 => ?_) (fun g6 => ?_)
        · exact no (by unfold stopTakes; rw [decide_eq_false (by omega), Bool.and_false]) _ _ _ (E2.trans E4) (by omega) (by omega)
        · refine k_iconst C dX3_isTaken_27 ?_
          refine k_goto C dX3_isTaken_28 (tgt := 32) (by decide) ?_
          exact k_zret (b := true) C E dX3_isTaken_32 (by omega) ⟨by unfold stopTakes; rw [g4, decide_eq_true (show (runN T A c0).n = A by omega)]; rfl, E2.trans E4⟩
  · obtain ⟨A, rfl⟩ : ∃ A : Nat, a = (A : Int) := ⟨a.toNat, by omega⟩
    obtain ⟨B, rfl⟩ : ∃ B : Nat, b = (B : Int) := ⟨b.toNat, by omega⟩
    rw [show takenB T 1 (A : Nat) (B : Nat) = cycB T A B from rfl]
    refine Ct.of (by decide) [some (.ref md), some (jI 1), some (jI (A : Nat)), some (jI (B : Nat))] rfl (Nat.le_of_ble_eq_true rfl) (fun K C E N0 => ?_)
    refine k_iload_n C dX3_isTaken_0 rfl ?_
    refine k_if_ne C dX3_isTaken_1 (tgt := 33) (by decide) (by omega) (fun g1 => ?_) (fun g2 => ?_)
    · refine k_iload_n C dX3_isTaken_33 rfl ?_
      refine k_iconst C dX3_isTaken_34 ?_
      refine k_icmp_ne C dX3_isTaken_35 (tgt := 45) (by decide) (by omega) (fun g3 => ?_) (fun g4 => ?_)
      · exact absurd rfl g3
      · refine k_aload_n C dX3_isTaken_38 rfl ?_
        refine k_iload_n C dX3_isTaken_39 rfl ?_
        refine k_iload_n C dX3_isTaken_40 rfl ?_
        refine kx_S C rfl ms_X3_115 dX3_isTaken_41 ((c_mIsCycle (a := A) (b := B) G hT (by omega) (by omega))) rfl rfl (Nat.le_of_ble_eq_true rfl) ⟨(Nat.le_of_ble_eq_true rfl), (Nat.le_of_ble_eq_true rfl)⟩ (by omega) (fun v h2 hp_ => ?_) (fun _ _ hx => hx.elim)
        obtain ⟨rfl, E2⟩ := hp_
        exact k_zret (b := cycB T A B) C E dX3_isTaken_44 (by omega) ⟨rfl, E2⟩
    · exact absurd g2 (by decide)
  · obtain ⟨A, rfl⟩ : ∃ A : Nat, a = (A : Int) := ⟨a.toNat, by omega⟩
    rw [show takenB T 2 (A : Nat) b = backTakes T A from rfl]
    refine Ct.of (by decide) [some (.ref md), some (jI 2), some (jI (A : Nat)), some (jI b)] rfl (Nat.le_of_ble_eq_true rfl) (fun K C E N0 => ?_)
    refine k_iload_n C dX3_isTaken_0 rfl ?_
    refine k_if_ne C dX3_isTaken_1 (tgt := 33) (by decide) (by omega) (fun g1 => ?_) (fun g2 => ?_)
    · refine k_iload_n C dX3_isTaken_33 rfl ?_
      refine k_iconst C dX3_isTaken_34 ?_
      refine k_icmp_ne C dX3_isTaken_35 (tgt := 45) (by decide) (by omega) (fun g3 => ?_) (fun g4 => ?_)
      · refine k_iload_n C dX3_isTaken_45 rfl ?_
        refine k_iconst C dX3_isTaken_46 ?_
        refine k_icmp_ne C dX3_isTaken_47 (tgt := 58) (by decide) (by omega) (fun g5 => ?_) (fun g6 => ?_)
        · exact absurd rfl g5
        · refine k_aload_n C dX3_isTaken_50 rfl ?_
          refine k_iload_n C dX3_isTaken_51 rfl ?_
          refine kx_S C rfl ms_X3_119 dX3_isTaken_52 ((c_mIsBack (a := A) (by omega) G hT)) rfl rfl (Nat.le_of_ble_eq_true rfl) ⟨(Nat.le_of_ble_eq_true rfl), (Nat.le_of_ble_eq_true rfl)⟩ (by omega) (fun v h2 hp_ => ?_) (fun _ _ hx => hx.elim)
          obtain ⟨rfl, E2⟩ := hp_
          refine k_goto C dX3_isTaken_55 (tgt := 63) (by decide) ?_
          exact k_zret (b := backTakes T A) C E dX3_isTaken_63 (by omega) ⟨rfl, E2⟩
      · exact absurd g4 (by decide)
    · exact absurd g2 (by decide)
  · obtain ⟨A, rfl⟩ : ∃ A : Nat, a = (A : Int) := ⟨a.toNat, by omega⟩
    rw [show takenB T 3 (A : Nat) b = gramB T A from rfl]
    refine Ct.of (by decide) [some (.ref md), some (jI 3), some (jI (A : Nat)), some (jI b)] rfl (Nat.le_of_ble_eq_true rfl) (fun K C E N0 => ?_)
    refine k_iload_n C dX3_isTaken_0 rfl ?_
    refine k_if_ne C dX3_isTaken_1 (tgt := 33) (by decide) (by omega) (fun g1 => ?_) (fun g2 => ?_)
    · refine k_iload_n C dX3_isTaken_33 rfl ?_
      refine k_iconst C dX3_isTaken_34 ?_
      refine k_icmp_ne C dX3_isTaken_35 (tgt := 45) (by decide) (by omega) (fun g3 => ?_) (fun g4 => ?_)
      · refine k_iload_n C dX3_isTaken_45 rfl ?_
        refine k_iconst C dX3_isTaken_46 ?_
        refine k_icmp_ne C dX3_isTaken_47 (tgt := 58) (by decide) (by omega) (fun g5 => ?_) (fun g6 => ?_)
        · refine k_aload_n C dX3_isTaken_58 rfl ?_
          refine k_iload_n C dX3_isTaken_59 rfl ?_
          refine kx_S C rfl ms_X3_123 dX3_isTaken_60 ((c_mIsGram (n := A) (by omega) G hT)) rfl rfl (Nat.le_of_ble_eq_true rfl) ⟨(Nat.le_of_ble_eq_true rfl), (Nat.le_of_ble_eq_true rfl)⟩ (by omega) (fun v h2 hp_ => ?_) (fun _ _ hx => hx.elim)
          obtain ⟨rfl, E2⟩ := hp_
          exact k_zret (b := gramB T A) C E dX3_isTaken_63 (by omega) ⟨rfl, E2⟩
        · exact absurd g6 (by decide)
      · exact absurd g4 (by decide)
    · exact absurd g2 (by decide)
def prvK (σ : Sg) (i k a b : Int) : Nat := if mchOk σ i then (if certB k a b then (if (σ.ms i.toNat).2.1.isSome then 3 else 0) else 2) else 1
/-- a machine with its certificate, if it is taken; the counts -/
def prvG (σ : Sg) (i : Nat) (k a b : Int) : Sg := if takenB (σ.ms i).1 k a b then putG σ i ((σ.ms i).1, some k.toNat, a, b) (σ.tk + 1) σ.rf σ.bk else cntG σ σ.tk (σ.rf + 1) σ.bk
theorem c_mProveX {w : Wd} {h : Hp} {m : Nat} {L : ML} {σ : Sg} {th i k a b : Int} {s : Int64} (H : isMo w h m L σ th s) (hsep : sepM L σ.n σ.k) (hσ : SgOk σ) (hi : i32 i) (hk : i32 k) (ha : i32 a) (hb : i32 b) : Ct w yX3_prove (ws_ yX3_prove cX3_prove 6 (some FieldType.boolean)) 12 307 400 3100 [.ref m, jI i, jI k, jI a, jI b] h (fun r h' => ∃ z : Bool, r = some (jI (b2i z)) ∧ (prvK σ i k a b = 0 → z = takenB (σ.ms i.toNat).1 k a b ∧ stepM w h h' m L σ (prvG σ i.toNat k a b) 0 s) ∧ (prvK σ i k a b ≠ 0 → stepM w h h' m L σ σ (prvK σ i k a b : Nat) s)) NoX := by
  have hm := H.1
  have hmn : h.2 m ≠ none := by rw [hm]; exact fun z => by cases z
  unfold prvK
  refine Ct.of (by decide) [some (.ref m), some (jI i), some (jI k), some (jI a), some (jI b), none] rfl (Nat.le_of_ble_eq_true rfl) (fun K C E N0 => ?_)
  have bad : ∀ c : Nat, 1 ≤ c → c ≤ 3 → (if mchOk σ i then (if certB k a b then (if (σ.ms i.toNat).2.1.isSome then 3 else 0) else 2) else 1) = c → Wk w K h 0 0 50 [some (.ref m), some (jI i), some (jI k), some (jI a), some (jI b), none] [jI (c : Nat), .ref m] := by
    intro c c1 c3 hc
    rw [hc] at E
    refine k_put C fg_X3_19 ft_2_0 dX3_prove_50 (by assumption) rfl rfl rfl (fun h1 P1 => ?_)
    have H1 := H.own P1
    have hm1 := H1.1
    refine k_aload_n C dX3_prove_53 rfl ?_
    refine k_get C fg_X3_19 dX3_prove_54 (by assumption) (by rfl) ?_
    refine k_if_le C dX3_prove_57 (tgt := 62) (by decide) (by omega) (fun g1 => ?_) (fun g2 => ?_)
    · omega
    · refine k_iconst C dX3_prove_60 ?_
      exact k_zret (b := false) C E dX3_prove_61 (by omega) ⟨false, rfl, fun z => absurd z (by omega), fun _ => q_step H1 hsep P1.upd⟩
  refine k_aload_n C dX3_prove_0 rfl ?_
  refine k_aload_n C dX3_prove_1 rfl ?_
  refine k_iload_n C dX3_prove_2 rfl ?_
  refine kx_V C rfl mv_X3_44 dX3_prove_3 ((c_mIsMachine H hσ hi)) (by assumption) rfl rfl (Nat.le_of_ble_eq_true rfl) ⟨(Nat.le_of_ble_eq_true rfl), (Nat.le_of_ble_eq_true rfl)⟩ (by omega) (fun v k1 hp_ => ?_) (fun _ _ hx => hx.elim)
  obtain ⟨rfl, rfl⟩ := hp_
  cases hok : mchOk σ i with
  | false =>
    refine k_ifne_b C dX3_prove_6 (tgt := 13) (by decide) (fun z => by cases z) (fun _ => ?_)
    rw [hok] at bad
    refine k_iconst C dX3_prove_9 ?_
    refine k_goto C dX3_prove_10 (tgt := 50) (by decide) ?_
    exact bad 1 (by decide) (by decide) rfl
  | true =>
    refine k_ifne_b C dX3_prove_6 (tgt := 13) (by decide) (fun _ => ?_) (fun z => by cases z)
    rw [hok] at bad E
    refine k_iload_n C dX3_prove_13 rfl ?_
    refine k_iload_n C dX3_prove_14 rfl ?_
    refine k_iload C dX3_prove_15 rfl ?_
    refine kx_S C rfl ms_X3_184 dX3_prove_17 ((c_mIsCert hk ha hb)) rfl rfl (Nat.le_of_ble_eq_true rfl) ⟨(Nat.le_of_ble_eq_true rfl), (Nat.le_of_ble_eq_true rfl)⟩ (by omega) (fun v k1 hp_ => ?_) (fun _ _ hx => hx.elim)
    obtain ⟨rfl, rfl⟩ := hp_
    cases hct : certB k a b with
    | false =>
      refine k_ifne_b C dX3_prove_20 (tgt := 27) (by decide) (fun z => by cases z) (fun _ => ?_)
      rw [hct] at bad
      refine k_iconst C dX3_prove_23 ?_
      refine k_goto C dX3_prove_24 (tgt := 50) (by decide) ?_
      exact bad 2 (by decide) (by decide) rfl
    | true =>
      refine k_ifne_b C dX3_prove_20 (tgt := 27) (by decide) (fun _ => ?_) (fun z => by cases z)
      rw [hct] at bad E
      obtain ⟨f, A, hin, hf, M⟩ := H.at hok
      have mok := hσ.2.2.1 i.toNat (by omega)
      have hki := kindN_i32 mok
      unfold i32 at hki
      have ks := kindN_some (σ.ms i.toNat)
      have l1 := A.1
      have M1 := M.1
      refine k_aload_n C dX3_prove_27 rfl ?_
      refine k_get C fg_X3_10 dX3_prove_28 (by assumption) (by rfl) ?_
      refine k_iload_n C dX3_prove_31 rfl ?_
      refine kx_V C rfl mv_X3_48 dX3_prove_32 ((c_get A hin hf)) (by assumption) rfl rfl (Nat.le_of_ble_eq_true rfl) ⟨(Nat.le_of_ble_eq_true rfl), (Nat.le_of_ble_eq_true rfl)⟩ (by omega) (fun v k1 hp_ => ?_) (fun _ _ hx => hx.elim)
      obtain ⟨rfl, rfl⟩ := hp_
      refine k_castO C ck_X3_35_5 dX3_prove_35 (by assumption) ?_
      refine k_getN C fn_X3_175 dX3_prove_38 (by assumption) (by rfl) ?_
      refine k_iconst C dX3_prove_41 ?_
      refine k_icmp_eq C dX3_prove_42 (tgt := 49) (by decide) (by omega) (fun g1 => ?_) (fun g2 => ?_)
      · rw [decide_eq_false (fun z => z g1)] at ks
        rw [← ks] at E
        rw [if_pos rfl, if_pos rfl] at E
        refine k_iconst C dX3_prove_49 ?_
        refine k_put C fg_X3_19 ft_2_0 dX3_prove_50 (by assumption) rfl rfl rfl (fun h1 P1 => ?_)
        have H1 := H.own P1
        have hm1 := H1.1
        obtain ⟨f1, A1, -, hf1, M1'⟩ := H1.at hok
        have l11 := A1.1
        have M11 := M1'.1
        refine k_aload_n C dX3_prove_53 rfl ?_
        refine k_get C fg_X3_19 dX3_prove_54 (by assumption) (by rfl) ?_
        refine k_if_le C dX3_prove_57 (tgt := 62) (by decide) (by omega) (fun g3 => ?_) (fun g4 => ?_)
        · refine k_aload_n C dX3_prove_62 rfl ?_
          refine k_get C fg_X3_10 dX3_prove_63 (by assumption) (by rfl) ?_
          refine k_iload_n C dX3_prove_66 rfl ?_
          refine kx_V C rfl mv_X3_48 dX3_prove_67 ((c_get A1 hin hf1)) (by assumption) rfl rfl (Nat.le_of_ble_eq_true rfl) ⟨(Nat.le_of_ble_eq_true rfl), (Nat.le_of_ble_eq_true rfl)⟩ (by omega) (fun v k2 hp_ => ?_) (fun _ _ hx => hx.elim)
          obtain ⟨rfl, rfl⟩ := hp_
          refine k_castO C ck_X3_35_5 dX3_prove_70 (by assumption) ?_
          refine k_iload_n C dX3_prove_73 rfl ?_
          refine k_iload_n C dX3_prove_74 rfl ?_
          refine k_iload C dX3_prove_75 rfl ?_
          refine kx_S C rfl ms_X3_187 dX3_prove_77 ((c_mIsTaken hct M1' mok.1)) rfl rfl (Nat.le_of_ble_eq_true rfl) ⟨(Nat.le_of_ble_eq_true rfl), (Nat.le_of_ble_eq_true rfl)⟩ (by omega) (fun v h2 hp_ => ?_) (fun _ _ hx => hx.elim)
          obtain ⟨rfl, E2⟩ := hp_
          have hm2 := E2.2 _ _ hm1
          have M2 := M1'.ext E2
          have M21 := M2.1
          have tb := hσ.2.2.2.2
          refine k_istore C dX3_prove_80 (Nat.le_of_ble_eq_true rfl) rfl ?_
          refine k_aload_n C dX3_prove_82 rfl ?_
          refine k_dup C dX3_prove_83 rfl ?_
          refine k_get C fg_X3_191 dX3_prove_84 (by assumption) (by rfl) ?_
          refine k_iconst C dX3_prove_87 ?_
          refine k_iadd C dX3_prove_88 ?_
          refine k_put C fg_X3_191 ft_2_3 dX3_prove_89 (by assumption) rfl rfl rfl (fun h3 P3 => ?_)
          have hm3 := P3.2.1
          generalize htk : takenB (σ.ms i.toNat).1 k a b = tk at *
          refine k_aload_n C dX3_prove_92 rfl ?_
          refine k_dup C dX3_prove_93 rfl ?_
          refine k_get C fg_X3_194 dX3_prove_94 (by assumption) (by rfl) ?_
          refine k_iload C dX3_prove_97 rfl ?_
          cases tk with
          | true =>
            refine k_ifeq_b C dX3_prove_99 (tgt := 106) (by decide) (fun z => by cases z) (fun _ => ?_)
            refine k_iconst C dX3_prove_102 ?_
            refine k_goto C dX3_prove_103 (tgt := 107) (by decide) ?_
            refine k_iadd C dX3_prove_107 ?_
            refine k_put C fg_X3_194 ft_2_4 dX3_prove_108 (by assumption) rfl rfl rfl (fun h4 P4 => ?_)
            have Q := P3.trans P4
            have m4 := P4.2.1
            have M4 : isMd h4 (L.A i.toNat).1 (L.A i.toNat).2 (σ.ms i.toNat).1 (kindN (σ.ms i.toNat)) (σ.ms i.toNat).2.2.1 (σ.ms i.toNat).2.2.2 := M2.keep Q.upd (by simp [ne_cel M21 hm2 (ne_cls (by decide))]) (by
              obtain ⟨-, fc, e2, -⟩ := M2
              simp [ne_cel e2 hm2 ne_oa]) (fun y hy => by
              rw [show y = m by simpa using hy]
              exact Or.inr ⟨_, hm2, Or.inr (Or.inr (Or.inl ⟨_, rfl⟩))⟩)
            have A4 : isAL w h4 L.lm L.am σ.n L.cm f1 := (A1.ext E2).upd Q.upd (by simp [ne_cel (A1.ext E2).1 hm2 (ne_cls (by decide))]) (by simp [ne_cel (A1.ext E2).2.1 hm2 ne_oa])
            have l4 := A4.1
            have M41 := M4.1
            refine k_iload C dX3_prove_111 rfl ?_
            refine k_ifeq_b C dX3_prove_113 (tgt := 134) (by decide) (fun z => by cases z) (fun _ => ?_)
            refine k_aload_n C dX3_prove_116 rfl ?_
            refine k_get C fg_X3_10 dX3_prove_117 (by assumption) (by rfl) ?_
            refine k_iload_n C dX3_prove_120 rfl ?_
            refine kx_V C rfl mv_X3_48 dX3_prove_121 ((c_get A4 hin hf1)) (by assumption) rfl rfl (Nat.le_of_ble_eq_true rfl) ⟨(Nat.le_of_ble_eq_true rfl), (Nat.le_of_ble_eq_true rfl)⟩ (by omega) (fun v k5 hp_ => ?_) (fun _ _ hx => hx.elim)
            obtain ⟨rfl, rfl⟩ := hp_
            refine k_castO C ck_X3_35_5 dX3_prove_124 (by assumption) ?_
            refine k_iload_n C dX3_prove_127 rfl ?_
            refine k_iload_n C dX3_prove_128 rfl ?_
            refine k_iload C dX3_prove_129 rfl ?_
            refine kx_S C rfl ms_X3_197 dX3_prove_131 ((c_mDecide M4)) rfl rfl (Nat.le_of_ble_eq_true rfl) ⟨(Nat.le_of_ble_eq_true rfl), (Nat.le_of_ble_eq_true rfl)⟩ (by omega) (fun v h6 hp_ => ?_) (fun _ _ hx => hx.elim)
            obtain ⟨rfl, P6⟩ := hp_
            refine k_iload C dX3_prove_134 rfl ?_
            have M6 := M4.dec P6
            have m6 := P6.2.2 _ _ m4 (ne_cel m4 M41 (ne_cls (by decide)))
            have kk : 0 ≤ k ∧ k ≤ 3 := by have := cert_b hct; omega
            have U6 : Upd h2 h6 [m, (L.A i.toNat).1] := (Q.upd.sub (by simp)).trans P6.upd (fun q hq => Or.inl (by simp at hq; simp [hq]))
            have st := mput_step (i := i.toNat) (mc := ((σ.ms i.toNat).1, some k.toNat, a, b)) (tk := σ.tk + 1) (rf := σ.rf) (bk := σ.bk) (th' := 0) H1 hsep (by omega) E2 U6 (fun y hy => by
              have hy' : y = m ∨ y = (L.A i.toNat).1 := by simpa using hy
              rcases hy' with z | z <;> simp [z]) (by show isMd h6 _ _ (σ.ms i.toNat).1 ((k.toNat : Nat) : Int) a b; rw [show ((k.toNat : Nat) : Int) = k by omega]; exact M6) (by rw [m6]; show some (Sum.inl (2, [jI 0, _, _, jI ((σ.tk : Int) + (σ.rf : Int) + 1), jI ((σ.tk : Int) + 1), _, _])) = _; rw [show (σ.tk : Int) + (σ.rf : Int) + 1 = ((σ.tk + 1 : Nat) : Int) + (σ.rf : Nat) by omega, show (σ.tk : Int) + 1 = ((σ.tk + 1 : Nat) : Int) by omega])
            exact k_zret (b := true) C E dX3_prove_136 (by omega) ⟨true, rfl, fun _ => ⟨rfl, by unfold prvG; rw [htk, if_pos rfl]; exact st.pre P1 hmn⟩, fun z => absurd rfl z⟩
          | false =>
            refine k_ifeq_b C dX3_prove_99 (tgt := 106) (by decide) (fun _ => ?_) (fun z => by cases z)
            refine k_iconst C dX3_prove_106 ?_
            refine k_iadd C dX3_prove_107 ?_
            refine k_put C fg_X3_194 ft_2_4 dX3_prove_108 (by assumption) rfl rfl rfl (fun h4 P4 => ?_)
            have Q := P3.trans P4
            refine k_iload C dX3_prove_111 rfl ?_
            refine k_ifeq_b C dX3_prove_113 (tgt := 134) (by decide) (fun _ => ?_) (fun z => by cases z)
            refine k_iload C dX3_prove_134 rfl ?_
            have Q' : Put h2 h4 m (.inl (2, [jI 0, .ref L.lm, .ref L.lt, jI ((σ.tk : Nat) + ((σ.rf + 1 : Nat) : Int)), jI (σ.tk : Nat), jI (σ.bk : Nat), .long s])) := by
              have e1 : (σ.tk : Int) + (σ.rf : Int) + 1 = (σ.tk : Nat) + ((σ.rf + 1 : Nat) : Int) := by omega
              have e2 : (σ.tk : Int) + 0 = (σ.tk : Nat) := by omega
              have Q2 : Put h2 h4 m (.inl (2, [jI 0, .ref L.lm, .ref L.lt, jI ((σ.tk : Int) + (σ.rf : Int) + 1), jI ((σ.tk : Int) + 0), jI (σ.bk : Nat), .long s])) := Q
              rw [e1, e2] at Q2
              exact Q2
            have H4 := (H1.ext E2).cnt (tk := σ.tk) (rf := σ.rf + 1) (bk := σ.bk) Q'
            have st : stepM w k2 h4 m L σ (cntG σ σ.tk (σ.rf + 1) σ.bk) 0 s := ⟨L, H4, hsep, (E2.updP _).trans (Q'.upd.updP (P := ownM m L σ.n) (fun y hy => Or.inl (by simpa using hy))) (fun y hy => Or.inl hy), fun _ hq => Or.inl hq⟩
            exact k_zret (b := false) C E dX3_prove_136 (by omega) ⟨false, rfl, fun _ => ⟨rfl, by unfold prvG; rw [htk, if_neg (by decide)]; exact st.pre P1 hmn⟩, fun z => absurd rfl z⟩
        · omega
      · rw [decide_eq_true g2] at ks
        rw [← ks] at bad
        refine k_iconst C dX3_prove_45 ?_
        refine k_goto C dX3_prove_46 (tgt := 50) (by decide) ?_
        exact bad 3 (by decide) (by decide) rfl
