/-! ===== champions, counts, means ===== -/
set_option maxRecDepth 100000
def sumN (f : Nat → Int) : Nat → Int
  | 0 => 0
  | i + 1 => sumN f i + f i
theorem sumN_b {f : Nat → Int} {b : Int} (hb : 0 ≤ b) : ∀ n : Nat, (∀ i, i < n → 0 ≤ f i ∧ f i ≤ b) → 0 ≤ sumN f n ∧ sumN f n ≤ b * n
  | 0, _ => ⟨Int.le_refl _, by simp [sumN]⟩
  | n + 1, h => by
    have h1 := sumN_b hb n (fun i hi => h i (by omega))
    have h2 := h n (by omega)
    have h3 : b * ((n + 1 : Nat) : Int) = b * n + b := by rw [Int.natCast_add, Int.mul_add]; simp
    unfold sumN
    omega
def undB (m : Mch) : Int := if m.2.1.isSome then 0 else 1
def byB (κ : Nat) (m : Mch) : Int := if m.2.1 = some κ then 1 else 0
/-- a machine at its place in the list -/
theorem isX.at {w : Wd} {h : Hp} {x : Nat} {X : XL} {σ : Sg} (H : isX w h x X σ) : ∃ f, isAL w h X.lm X.am σ.n X.cm f ∧ ∀ i : Nat, i < σ.n → f (i : Int) = some (X.A i).1 ∧ ∃ k, h.2 (X.A i).1 = some (.inl (3, [.ref (X.A i).2.1, .ref k, jI (σ.ms i).2.2.1, jI (σ.ms i).2.2.2])) := by
  obtain ⟨-, ⟨f, h2, h3⟩, -, -, h7, -⟩ := H
  refine ⟨f, h2, fun i hi => ⟨h3 i hi, ?_⟩⟩
  obtain ⟨⟨k, hk, -⟩, -⟩ := h7 i hi
  exact ⟨k, hk⟩
theorem c_decidedBy {w : Wd} {h : Hp} {x κ : Nat} {X : XL} {σ : Sg} (H : isX w h x X σ) (hσ : SgOk σ) (hκ : κ < 4) : Ct w yX1_decidedBy (ws_ yX1_decidedBy cX1_decidedBy 4 (some FieldType.int)) 3 64 0 0 [.ref x, .ref (w.ad (κ + 1))] h (fun v h' => v = some (jI (sumN (fun i => byB κ (σ.ms i)) σ.n)) ∧ h' = h) NoX := by
  have hX := H.1
  have hn := hσ.1
  obtain ⟨f, A, F⟩ := H.at
  have l1 := A.1
  refine Ct.of (by decide) [some (.ref x), some (.ref (w.ad (κ + 1))), none, none] rfl (Nat.le_of_ble_eq_true rfl) (fun K C E N0 => ?_)
  have loop : ∀ (d i : Nat), i + d = σ.n → Wk w K h 0 0 4 [some (.ref x), some (.ref (w.ad (κ + 1))), some (jI (sumN (fun i => byB κ (σ.ms i)) i)), some (jI (i : Nat))] [] := by
    intro d
    induction d with
    | zero =>
      intro i hi
      have hi' : i = σ.n := by omega
      subst hi'
      refine k_iload_n C dX1_decidedBy_4 rfl ?_
      refine k_aload_n C dX1_decidedBy_5 rfl ?_
      refine k_get C fg_X1_130 dX1_decidedBy_6 (by assumption) (by rfl) ?_
      refine kx_F C rfl mf_X1_56 dX1_decidedBy_9 ((c_size l1)) (by assumption) rfl rfl (Nat.le_of_ble_eq_true rfl) ⟨(Nat.le_of_ble_eq_true rfl), (Nat.le_of_ble_eq_true rfl)⟩ (by omega) (fun v kk hp_ => ?_) (fun _ _ hx => hx.elim)
      obtain ⟨rfl, rfl⟩ := hp_
      refine k_icmp_ge C dX1_decidedBy_14 (tgt := 66) (by decide) (by omega) (fun g1 => ?_) (fun g2 => ?_)
      · refine k_iload_n C dX1_decidedBy_66 rfl ?_
        exact k_iret C E dX1_decidedBy_67 (by omega) ⟨rfl, rfl⟩
      · omega
    | succ d ih =>
      intro i hi
      obtain ⟨fi, k, hk⟩ := F i (by omega)
      have M := H.2.2.2.2.1 i (by omega)
      have hok := hσ.2.2.1 i (by omega)
      refine k_iload_n C dX1_decidedBy_4 rfl ?_
      refine k_aload_n C dX1_decidedBy_5 rfl ?_
      refine k_get C fg_X1_130 dX1_decidedBy_6 (by assumption) (by rfl) ?_
      refine kx_F C rfl mf_X1_56 dX1_decidedBy_9 ((c_size l1)) (by assumption) rfl rfl (Nat.le_of_ble_eq_true rfl) ⟨(Nat.le_of_ble_eq_true rfl), (Nat.le_of_ble_eq_true rfl)⟩ (by omega) (fun v kk hp_ => ?_) (fun _ _ hx => hx.elim)
      obtain ⟨rfl, rfl⟩ := hp_
      refine k_icmp_ge C dX1_decidedBy_14 (tgt := 66) (by decide) (by omega) (fun g1 => ?_) (fun g2 => ?_)
      · omega
      · refine k_iload_n C dX1_decidedBy_17 rfl ?_
        refine k_aload_n C dX1_decidedBy_18 rfl ?_
        refine k_get C fg_X1_130 dX1_decidedBy_19 (by assumption) (by rfl) ?_
        refine k_iload_n C dX1_decidedBy_22 rfl ?_
        refine kx_F C rfl mf_X1_60 dX1_decidedBy_23 ((c_get A (by omega) fi)) (by assumption) rfl rfl (Nat.le_of_ble_eq_true rfl) ⟨(Nat.le_of_ble_eq_true rfl), (Nat.le_of_ble_eq_true rfl)⟩ (by omega) (fun v kk hp_ => ?_) (fun _ _ hx => hx.elim)
        obtain ⟨rfl, rfl⟩ := hp_
        refine k_castO C ck_X1_160_3 dX1_decidedBy_28 (by assumption) ?_
        refine k_aload_n C dX1_decidedBy_31 rfl ?_
        refine kx_V C rfl mv_X1_290 dX1_decidedBy_32 ((c_isDecidedBy M hok hκ)) (by assumption) rfl rfl (Nat.le_of_ble_eq_true rfl) ⟨(Nat.le_of_ble_eq_true rfl), (Nat.le_of_ble_eq_true rfl)⟩ (by omega) (fun v kk hp_ => ?_) (fun _ _ hx => hx.elim)
        obtain ⟨rfl, rfl⟩ := hp_
        have es : sumN (fun i => byB κ (σ.ms i)) (i + 1) = sumN (fun i => byB κ (σ.ms i)) i + byB κ (σ.ms i) := rfl
        refine k_ifeq_b C dX1_decidedBy_35 (tgt := 57) (by decide) (fun g3 => ?_) (fun g4 => ?_)
        · have e : byB κ (σ.ms i) = 0 := if_neg (of_decide_eq_false g3)
          rw [e] at es
          refine k_iconst C dX1_decidedBy_57 ?_
          refine k_iadd C dX1_decidedBy_58 ?_
          refine k_istore_n C dX1_decidedBy_59 (Nat.le_of_ble_eq_true rfl) rfl ?_
          refine k_iinc C dX1_decidedBy_60 rfl rfl ?_
          refine k_goto C dX1_decidedBy_63 (tgt := 4) (by decide) ?_
          rw [← es]
          exact ih (i + 1) (by omega)
        · have e : byB κ (σ.ms i) = 1 := if_pos (of_decide_eq_true g4)
          rw [e] at es
          refine k_aload_n C dX1_decidedBy_38 rfl ?_
          refine k_get C fg_X1_130 dX1_decidedBy_39 (by assumption) (by rfl) ?_
          refine k_iload_n C dX1_decidedBy_42 rfl ?_
          refine kx_F C rfl mf_X1_60 dX1_decidedBy_43 ((c_get A (by omega) fi)) (by assumption) rfl rfl (Nat.le_of_ble_eq_true rfl) ⟨(Nat.le_of_ble_eq_true rfl), (Nat.le_of_ble_eq_true rfl)⟩ (by omega) (fun v kk hp_ => ?_) (fun _ _ hx => hx.elim)
          obtain ⟨rfl, rfl⟩ := hp_
          refine k_castO C ck_X1_160_3 dX1_decidedBy_48 (by assumption) ?_
          refine k_count (Or.inl ⟨rfl, rfl⟩) C rfl dX1_decidedBy_51 hk (Nat.le_of_ble_eq_true rfl) ⟨Nat.le_of_ble_eq_true rfl, Nat.le_of_ble_eq_true rfl⟩ (by omega) ?_
          refine k_goto C dX1_decidedBy_54 (tgt := 58) (by decide) ?_
          refine k_iadd C dX1_decidedBy_58 ?_
          refine k_istore_n C dX1_decidedBy_59 (Nat.le_of_ble_eq_true rfl) rfl ?_
          refine k_iinc C dX1_decidedBy_60 rfl rfl ?_
          refine k_goto C dX1_decidedBy_63 (tgt := 4) (by decide) ?_
          rw [← es]
          exact ih (i + 1) (by omega)
  refine k_iconst C dX1_decidedBy_0 ?_
  refine k_istore_n C dX1_decidedBy_1 (Nat.le_of_ble_eq_true rfl) rfl ?_
  refine k_iconst C dX1_decidedBy_2 ?_
  refine k_istore_n C dX1_decidedBy_3 (Nat.le_of_ble_eq_true rfl) rfl ?_
  exact loop σ.n 0 (by omega)
def manyC (σ : Sg) (what : Int) : Int := if what = 0 then σ.n else if what = 1 then sumN (fun i => undB (σ.ms i)) σ.n else if what = 6 then σ.k else if what = 7 then σ.tk + σ.rf else if what = 8 then σ.tk else if what = 9 then σ.bk else if what = 10 then sumN (fun i => cntE (σ.ms i).1 (2 * (σ.ms i).1.1)) σ.n else sumN (fun i => byB (what - 2).toNat (σ.ms i)) σ.n
theorem c_manyNow {w : Wd} {h : Hp} {x : Nat} {X : XL} {σ : Sg} {what : Int} (H : isX w h x X σ) (hσ : SgOk σ) (hw : 0 ≤ what ∧ what ≤ 10) : Ct w yX1_manyNow (ws_ yX1_manyNow cX1_manyNow 4 (some FieldType.int)) 11 262 1 6 [.ref x, jI what] h (fun v h' => v = some (jI (manyC σ what)) ∧ h' = h) NoX := by
  have hX := H.1
  have hn := hσ.1
  have hk4 := hσ.2.1
  have hcnt := hσ.2.2.2.2
  have hg := H.2.2.2.1
  obtain ⟨f, A, F⟩ := H.at
  have l1 := A.1
  obtain ⟨ft, At, Ft⟩ := H.2.2.1
  have t1 := At.1
  refine Ct.of (by decide) [some (.ref x), some (jI what), none, none] rfl (Nat.le_of_ble_eq_true rfl) (fun K C E N0 => ?_)
  refine k_iconst C dX1_manyNow_0 ?_
  refine k_istore_n C dX1_manyNow_1 (Nat.le_of_ble_eq_true rfl) rfl ?_
  refine k_iload_n C dX1_manyNow_2 rfl ?_
  have hs : what = 0 ∨ what = 1 ∨ what = 6 ∨ what = 7 ∨ what = 8 ∨ what = 9 ∨ what = 10 ∨ what = 2 ∨ what = 3 ∨ what = 4 ∨ what = 5 := by omega
  have kinds : ∀ κ : Nat, κ < 4 → Wk w K h 0 0 254 [some (.ref x), some (jI ((κ : Int) + 2)), some (jI 0), none] [] → True := fun _ _ _ => trivial
  rcases hs with e | e | e | e | e | e | e | e | e | e | e <;> subst e
  · refine k_tswIn (x := 0) (tgt := 60) C dX1_manyNow_3 (by decide) (by decide) (by decide) rfl (by decide) ?_
    refine k_aload_n C dX1_manyNow_60 rfl ?_
    refine k_get C fg_X1_130 dX1_manyNow_61 (by assumption) (by rfl) ?_
    refine kx_F C rfl mf_X1_56 dX1_manyNow_64 ((c_size l1)) (by assumption) rfl rfl (Nat.le_of_ble_eq_true rfl) ⟨(Nat.le_of_ble_eq_true rfl), (Nat.le_of_ble_eq_true rfl)⟩ (by omega) (fun v kk hp_ => ?_) (fun _ _ hx => hx.elim)
    obtain ⟨rfl, rfl⟩ := hp_
    exact k_iret C E dX1_manyNow_69 (by omega) ⟨rfl, rfl⟩
  · refine k_tswIn (x := 1) (tgt := 70) C dX1_manyNow_3 (by decide) (by decide) (by decide) rfl (by decide) ?_
    have loop : ∀ (d i : Nat), i + d = σ.n → Wk w K h 0 0 72 [some (.ref x), some (jI 1), some (jI (sumN (fun i => undB (σ.ms i)) i)), some (jI (i : Nat))] [] := by
      intro d
      induction d with
      | zero =>
        intro i hi
        have hi' : i = σ.n := by omega
        subst hi'
        refine k_iload_n C dX1_manyNow_72 rfl ?_
        refine k_aload_n C dX1_manyNow_73 rfl ?_
        refine k_get C fg_X1_130 dX1_manyNow_74 (by assumption) (by rfl) ?_
        refine kx_F C rfl mf_X1_56 dX1_manyNow_77 ((c_size l1)) (by assumption) rfl rfl (Nat.le_of_ble_eq_true rfl) ⟨(Nat.le_of_ble_eq_true rfl), (Nat.le_of_ble_eq_true rfl)⟩ (by omega) (fun v kk hp_ => ?_) (fun _ _ hx => hx.elim)
        obtain ⟨rfl, rfl⟩ := hp_
        refine k_icmp_ge C dX1_manyNow_82 (tgt := 133) (by decide) (by omega) (fun g1 => ?_) (fun g2 => ?_)
        · refine k_iload_n C dX1_manyNow_133 rfl ?_
          exact k_iret C E dX1_manyNow_134 (by omega) ⟨rfl, rfl⟩
        · omega
      | succ d ih =>
        intro i hi
        obtain ⟨fi, k, hk⟩ := F i (by omega)
        have M := H.2.2.2.2.1 i (by omega)
        refine k_iload_n C dX1_manyNow_72 rfl ?_
        refine k_aload_n C dX1_manyNow_73 rfl ?_
        refine k_get C fg_X1_130 dX1_manyNow_74 (by assumption) (by rfl) ?_
        refine kx_F C rfl mf_X1_56 dX1_manyNow_77 ((c_size l1)) (by assumption) rfl rfl (Nat.le_of_ble_eq_true rfl) ⟨(Nat.le_of_ble_eq_true rfl), (Nat.le_of_ble_eq_true rfl)⟩ (by omega) (fun v kk hp_ => ?_) (fun _ _ hx => hx.elim)
        obtain ⟨rfl, rfl⟩ := hp_
        refine k_icmp_ge C dX1_manyNow_82 (tgt := 133) (by decide) (by omega) (fun g1 => ?_) (fun g2 => ?_)
        · omega
        · refine k_iload_n C dX1_manyNow_85 rfl ?_
          refine k_aload_n C dX1_manyNow_86 rfl ?_
          refine k_get C fg_X1_130 dX1_manyNow_87 (by assumption) (by rfl) ?_
          refine k_iload_n C dX1_manyNow_90 rfl ?_
          refine kx_F C rfl mf_X1_60 dX1_manyNow_91 ((c_get A (by omega) fi)) (by assumption) rfl rfl (Nat.le_of_ble_eq_true rfl) ⟨(Nat.le_of_ble_eq_true rfl), (Nat.le_of_ble_eq_true rfl)⟩ (by omega) (fun v kk hp_ => ?_) (fun _ _ hx => hx.elim)
          obtain ⟨rfl, rfl⟩ := hp_
          refine k_castO C ck_X1_160_3 dX1_manyNow_96 (by assumption) ?_
          refine kx_V C rfl mv_X1_276 dX1_manyNow_99 ((c_isDecided M)) (by assumption) rfl rfl (Nat.le_of_ble_eq_true rfl) ⟨(Nat.le_of_ble_eq_true rfl), (Nat.le_of_ble_eq_true rfl)⟩ (by omega) (fun v kk hp_ => ?_) (fun _ _ hx => hx.elim)
          obtain ⟨rfl, rfl⟩ := hp_
          have es : sumN (fun i => undB (σ.ms i)) (i + 1) = sumN (fun i => undB (σ.ms i)) i + undB (σ.ms i) := rfl
          refine k_ifeq_b C dX1_manyNow_102 (tgt := 109) (by decide) (fun g3 => ?_) (fun g4 => ?_)
          · have e : undB (σ.ms i) = 1 := by unfold undB; rw [g3]; rfl
            rw [e] at es
            refine k_aload_n C dX1_manyNow_109 rfl ?_
            refine k_get C fg_X1_130 dX1_manyNow_110 (by assumption) (by rfl) ?_
            refine k_iload_n C dX1_manyNow_113 rfl ?_
            refine kx_F C rfl mf_X1_60 dX1_manyNow_114 ((c_get A (by omega) fi)) (by assumption) rfl rfl (Nat.le_of_ble_eq_true rfl) ⟨(Nat.le_of_ble_eq_true rfl), (Nat.le_of_ble_eq_true rfl)⟩ (by omega) (fun v kk hp_ => ?_) (fun _ _ hx => hx.elim)
            obtain ⟨rfl, rfl⟩ := hp_
            refine k_castO C ck_X1_160_3 dX1_manyNow_119 (by assumption) ?_
            refine k_count (Or.inl ⟨rfl, rfl⟩) C rfl dX1_manyNow_122 hk (Nat.le_of_ble_eq_true rfl) ⟨Nat.le_of_ble_eq_true rfl, Nat.le_of_ble_eq_true rfl⟩ (by omega) ?_
            refine k_iadd C dX1_manyNow_125 ?_
            refine k_istore_n C dX1_manyNow_126 (Nat.le_of_ble_eq_true rfl) rfl ?_
            refine k_iinc C dX1_manyNow_127 rfl rfl ?_
            refine k_goto C dX1_manyNow_130 (tgt := 72) (by decide) ?_
            rw [← es]
            exact ih (i + 1) (by omega)
          · have e : undB (σ.ms i) = 0 := by unfold undB; rw [g4]; rfl
            rw [e] at es
            refine k_iconst C dX1_manyNow_105 ?_
            refine k_goto C dX1_manyNow_106 (tgt := 125) (by decide) ?_
            refine k_iadd C dX1_manyNow_125 ?_
            refine k_istore_n C dX1_manyNow_126 (Nat.le_of_ble_eq_true rfl) rfl ?_
            refine k_iinc C dX1_manyNow_127 rfl rfl ?_
            refine k_goto C dX1_manyNow_130 (tgt := 72) (by decide) ?_
            rw [← es]
            exact ih (i + 1) (by omega)
    refine k_iconst C dX1_manyNow_70 ?_
    refine k_istore_n C dX1_manyNow_71 (Nat.le_of_ble_eq_true rfl) rfl ?_
    exact loop σ.n 0 (by omega)
  · refine k_tswIn (x := 6) (tgt := 135) C dX1_manyNow_3 (by decide) (by decide) (by decide) rfl (by decide) ?_
    have loop : ∀ (d i : Nat), i + d = σ.k → Wk w K h 0 0 137 [some (.ref x), some (jI 6), some (jI (i : Nat)), some (jI (i : Nat))] [] := by
      intro d
      induction d with
      | zero =>
        intro i hi
        have hi' : i = σ.k := by omega
        subst hi'
        refine k_iload_n C dX1_manyNow_137 rfl ?_
        refine k_aload_n C dX1_manyNow_138 rfl ?_
        refine k_get C fg_X1_134 dX1_manyNow_139 (by assumption) (by rfl) ?_
        refine kx_F C rfl mf_X1_56 dX1_manyNow_142 ((c_size t1)) (by assumption) rfl rfl (Nat.le_of_ble_eq_true rfl) ⟨(Nat.le_of_ble_eq_true rfl), (Nat.le_of_ble_eq_true rfl)⟩ (by omega) (fun v kk hp_ => ?_) (fun _ _ hx => hx.elim)
        obtain ⟨rfl, rfl⟩ := hp_
        refine k_icmp_ge C dX1_manyNow_147 (tgt := 175) (by decide) (by omega) (fun g1 => ?_) (fun g2 => ?_)
        · refine k_iload_n C dX1_manyNow_175 rfl ?_
          exact k_iret C E dX1_manyNow_176 (by omega) ⟨rfl, rfl⟩
        · omega
      | succ d ih =>
        intro i hi
        have fi := Ft i (by omega)
        have hk := (H.2.2.2.2.2 i (by omega)).1
        refine k_iload_n C dX1_manyNow_137 rfl ?_
        refine k_aload_n C dX1_manyNow_138 rfl ?_
        refine k_get C fg_X1_134 dX1_manyNow_139 (by assumption) (by rfl) ?_
        refine kx_F C rfl mf_X1_56 dX1_manyNow_142 ((c_size t1)) (by assumption) rfl rfl (Nat.le_of_ble_eq_true rfl) ⟨(Nat.le_of_ble_eq_true rfl), (Nat.le_of_ble_eq_true rfl)⟩ (by omega) (fun v kk hp_ => ?_) (fun _ _ hx => hx.elim)
        obtain ⟨rfl, rfl⟩ := hp_
        refine k_icmp_ge C dX1_manyNow_147 (tgt := 175) (by decide) (by omega) (fun g1 => ?_) (fun g2 => ?_)
        · omega
        · refine k_iload_n C dX1_manyNow_150 rfl ?_
          refine k_aload_n C dX1_manyNow_151 rfl ?_
          refine k_get C fg_X1_134 dX1_manyNow_152 (by assumption) (by rfl) ?_
          refine k_iload_n C dX1_manyNow_155 rfl ?_
          refine kx_F C rfl mf_X1_60 dX1_manyNow_156 ((c_get At (by omega) fi)) (by assumption) rfl rfl (Nat.le_of_ble_eq_true rfl) ⟨(Nat.le_of_ble_eq_true rfl), (Nat.le_of_ble_eq_true rfl)⟩ (by omega) (fun v kk hp_ => ?_) (fun _ _ hx => hx.elim)
          obtain ⟨rfl, rfl⟩ := hp_
          refine k_castO C ck_X1_240_9 dX1_manyNow_161 (by assumption) ?_
          refine k_count (Or.inr ⟨rfl, rfl⟩) C rfl dX1_manyNow_164 hk (Nat.le_of_ble_eq_true rfl) ⟨Nat.le_of_ble_eq_true rfl, Nat.le_of_ble_eq_true rfl⟩ (by omega) ?_
          refine k_iadd C dX1_manyNow_167 ?_
          refine k_istore_n C dX1_manyNow_168 (Nat.le_of_ble_eq_true rfl) rfl ?_
          refine k_iinc C dX1_manyNow_169 rfl rfl ?_
          refine k_goto C dX1_manyNow_172 (tgt := 137) (by decide) ?_
          exact ih (i + 1) (by omega)
    refine k_iconst C dX1_manyNow_135 ?_
    refine k_istore_n C dX1_manyNow_136 (Nat.le_of_ble_eq_true rfl) rfl ?_
    exact loop σ.k 0 (by omega)
  · refine k_tswIn (x := 7) (tgt := 177) C dX1_manyNow_3 (by decide) (by decide) (by decide) rfl (by decide) ?_
    refine k_aload_n C dX1_manyNow_177 rfl ?_
    refine k_get C fg_X1_140 dX1_manyNow_178 (by assumption) (by rfl) ?_
    refine k_getN C fn_X1_243 dX1_manyNow_181 (by assumption) (by rfl) ?_
    refine k_aload_n C dX1_manyNow_184 rfl ?_
    refine k_get C fg_X1_140 dX1_manyNow_185 (by assumption) (by rfl) ?_
    refine k_getN C fn_X1_251 dX1_manyNow_188 (by assumption) (by rfl) ?_
    refine k_iadd C dX1_manyNow_191 ?_
    exact k_iret C E dX1_manyNow_192 (by omega) ⟨rfl, rfl⟩
  · refine k_tswIn (x := 8) (tgt := 193) C dX1_manyNow_3 (by decide) (by decide) (by decide) rfl (by decide) ?_
    refine k_aload_n C dX1_manyNow_193 rfl ?_
    refine k_get C fg_X1_140 dX1_manyNow_194 (by assumption) (by rfl) ?_
    refine k_getN C fn_X1_243 dX1_manyNow_197 (by assumption) (by rfl) ?_
    exact k_iret C E dX1_manyNow_200 (by omega) ⟨rfl, rfl⟩
  · refine k_tswIn (x := 9) (tgt := 201) C dX1_manyNow_3 (by decide) (by decide) (by decide) rfl (by decide) ?_
    refine k_aload_n C dX1_manyNow_201 rfl ?_
    refine k_get C fg_X1_140 dX1_manyNow_202 (by assumption) (by rfl) ?_
    refine k_getN C fn_X1_188 dX1_manyNow_205 (by assumption) (by rfl) ?_
    exact k_iret C E dX1_manyNow_208 (by omega) ⟨rfl, rfl⟩
  · refine k_tswIn (x := 10) (tgt := 209) C dX1_manyNow_3 (by decide) (by decide) (by decide) rfl (by decide) ?_
    have loop : ∀ (d i : Nat), i + d = σ.n → Wk w K h 0 0 211 [some (.ref x), some (jI 10), some (jI (sumN (fun i => cntE (σ.ms i).1 (2 * (σ.ms i).1.1)) i)), some (jI (i : Nat))] [] := by
      intro d
      induction d with
      | zero =>
        intro i hi
        have hi' : i = σ.n := by omega
        subst hi'
        refine k_iload_n C dX1_manyNow_211 rfl ?_
        refine k_aload_n C dX1_manyNow_212 rfl ?_
        refine k_get C fg_X1_130 dX1_manyNow_213 (by assumption) (by rfl) ?_
        refine kx_F C rfl mf_X1_56 dX1_manyNow_216 ((c_size l1)) (by assumption) rfl rfl (Nat.le_of_ble_eq_true rfl) ⟨(Nat.le_of_ble_eq_true rfl), (Nat.le_of_ble_eq_true rfl)⟩ (by omega) (fun v kk hp_ => ?_) (fun _ _ hx => hx.elim)
        obtain ⟨rfl, rfl⟩ := hp_
        refine k_icmp_ge C dX1_manyNow_221 (tgt := 252) (by decide) (by omega) (fun g1 => ?_) (fun g2 => ?_)
        · refine k_iload_n C dX1_manyNow_252 rfl ?_
          exact k_iret C E dX1_manyNow_253 (by omega) ⟨rfl, rfl⟩
        · omega
      | succ d ih =>
        intro i hi
        obtain ⟨fi, k, hk⟩ := F i (by omega)
        have M := H.2.2.2.2.1 i (by omega)
        have G := M.2
        have hok := hσ.2.2.1 i (by omega)
        refine k_iload_n C dX1_manyNow_211 rfl ?_
        refine k_aload_n C dX1_manyNow_212 rfl ?_
        refine k_get C fg_X1_130 dX1_manyNow_213 (by assumption) (by rfl) ?_
        refine kx_F C rfl mf_X1_56 dX1_manyNow_216 ((c_size l1)) (by assumption) rfl rfl (Nat.le_of_ble_eq_true rfl) ⟨(Nat.le_of_ble_eq_true rfl), (Nat.le_of_ble_eq_true rfl)⟩ (by omega) (fun v kk hp_ => ?_) (fun _ _ hx => hx.elim)
        obtain ⟨rfl, rfl⟩ := hp_
        refine k_icmp_ge C dX1_manyNow_221 (tgt := 252) (by decide) (by omega) (fun g1 => ?_) (fun g2 => ?_)
        · omega
        · refine k_iload_n C dX1_manyNow_224 rfl ?_
          refine k_aload_n C dX1_manyNow_225 rfl ?_
          refine k_get C fg_X1_130 dX1_manyNow_226 (by assumption) (by rfl) ?_
          refine k_iload_n C dX1_manyNow_229 rfl ?_
          refine kx_F C rfl mf_X1_60 dX1_manyNow_230 ((c_get A (by omega) fi)) (by assumption) rfl rfl (Nat.le_of_ble_eq_true rfl) ⟨(Nat.le_of_ble_eq_true rfl), (Nat.le_of_ble_eq_true rfl)⟩ (by omega) (fun v kk hp_ => ?_) (fun _ _ hx => hx.elim)
          obtain ⟨rfl, rfl⟩ := hp_
          have G1 := G.1
          refine k_castO C ck_X1_160_3 dX1_manyNow_235 (by assumption) ?_
          refine k_getN C fn_X1_166 dX1_manyNow_238 (by assumption) (by rfl) ?_
          refine kx_V C rfl mv_X1_213 dX1_manyNow_241 ((c_empty G hok.1.2.1)) (by assumption) rfl rfl (Nat.le_of_ble_eq_true rfl) ⟨(Nat.le_of_ble_eq_true rfl), (Nat.le_of_ble_eq_true rfl)⟩ (by omega) (fun v kk hp_ => ?_) (fun _ _ hx => hx.elim)
          obtain ⟨rfl, rfl⟩ := hp_
          refine k_iadd C dX1_manyNow_244 ?_
          refine k_istore_n C dX1_manyNow_245 (Nat.le_of_ble_eq_true rfl) rfl ?_
          refine k_iinc C dX1_manyNow_246 rfl rfl ?_
          refine k_goto C dX1_manyNow_249 (tgt := 211) (by decide) ?_
          exact ih (i + 1) (by omega)
    refine k_iconst C dX1_manyNow_209 ?_
    refine k_istore_n C dX1_manyNow_210 (Nat.le_of_ble_eq_true rfl) rfl ?_
    exact loop σ.n 0 (by omega)
  · refine k_tswIn (x := 2) (tgt := 254) C dX1_manyNow_3 (by decide) (by decide) (by decide) rfl (by decide) ?_
    refine k_aload_n C dX1_manyNow_254 rfl ?_
    refine k_iload_n C dX1_manyNow_255 rfl ?_
    refine k_iconst C dX1_manyNow_256 ?_
    refine k_isub C dX1_manyNow_257 ?_
    refine kx_S C rfl ms_X1_269 dX1_manyNow_258 ((c_kindOf (κ := 0) (by unfold i32; omega))) rfl rfl (Nat.le_of_ble_eq_true rfl) ⟨(Nat.le_of_ble_eq_true rfl), (Nat.le_of_ble_eq_true rfl)⟩ (by omega) (fun v kk hp_ => ?_) (fun E1 h1 hx => absurd (by omega) hx.1)
    obtain ⟨_, rfl, rfl⟩ := hp_
    refine kx_V C rfl mv_X1_400 dX1_manyNow_261 ((c_decidedBy (κ := 0) H hσ (by omega))) (by assumption) rfl rfl (Nat.le_of_ble_eq_true rfl) ⟨(Nat.le_of_ble_eq_true rfl), (Nat.le_of_ble_eq_true rfl)⟩ (by omega) (fun v kk hp_ => ?_) (fun _ _ hx => hx.elim)
    obtain ⟨rfl, rfl⟩ := hp_
    exact k_iret C E dX1_manyNow_264 (by omega) ⟨rfl, rfl⟩
  · refine k_tswIn (x := 3) (tgt := 254) C dX1_manyNow_3 (by decide) (by decide) (by decide) rfl (by decide) ?_
    refine k_aload_n C dX1_manyNow_254 rfl ?_
    refine k_iload_n C dX1_manyNow_255 rfl ?_
    refine k_iconst C dX1_manyNow_256 ?_
    refine k_isub C dX1_manyNow_257 ?_
    refine kx_S C rfl ms_X1_269 dX1_manyNow_258 ((c_kindOf (κ := 1) (by unfold i32; omega))) rfl rfl (Nat.le_of_ble_eq_true rfl) ⟨(Nat.le_of_ble_eq_true rfl), (Nat.le_of_ble_eq_true rfl)⟩ (by omega) (fun v kk hp_ => ?_) (fun E1 h1 hx => absurd (by omega) hx.1)
    obtain ⟨_, rfl, rfl⟩ := hp_
    refine kx_V C rfl mv_X1_400 dX1_manyNow_261 ((c_decidedBy (κ := 1) H hσ (by omega))) (by assumption) rfl rfl (Nat.le_of_ble_eq_true rfl) ⟨(Nat.le_of_ble_eq_true rfl), (Nat.le_of_ble_eq_true rfl)⟩ (by omega) (fun v kk hp_ => ?_) (fun _ _ hx => hx.elim)
    obtain ⟨rfl, rfl⟩ := hp_
    exact k_iret C E dX1_manyNow_264 (by omega) ⟨rfl, rfl⟩
  · refine k_tswIn (x := 4) (tgt := 254) C dX1_manyNow_3 (by decide) (by decide) (by decide) rfl (by decide) ?_
    refine k_aload_n C dX1_manyNow_254 rfl ?_
    refine k_iload_n C dX1_manyNow_255 rfl ?_
    refine k_iconst C dX1_manyNow_256 ?_
    refine k_isub C dX1_manyNow_257 ?_
    refine kx_S C rfl ms_X1_269 dX1_manyNow_258 ((c_kindOf (κ := 2) (by unfold i32; omega))) rfl rfl (Nat.le_of_ble_eq_true rfl) ⟨(Nat.le_of_ble_eq_true rfl), (Nat.le_of_ble_eq_true rfl)⟩ (by omega) (fun v kk hp_ => ?_) (fun E1 h1 hx => absurd (by omega) hx.1)
    obtain ⟨_, rfl, rfl⟩ := hp_
    refine kx_V C rfl mv_X1_400 dX1_manyNow_261 ((c_decidedBy (κ := 2) H hσ (by omega))) (by assumption) rfl rfl (Nat.le_of_ble_eq_true rfl) ⟨(Nat.le_of_ble_eq_true rfl), (Nat.le_of_ble_eq_true rfl)⟩ (by omega) (fun v kk hp_ => ?_) (fun _ _ hx => hx.elim)
    obtain ⟨rfl, rfl⟩ := hp_
    exact k_iret C E dX1_manyNow_264 (by omega) ⟨rfl, rfl⟩
  · refine k_tswIn (x := 5) (tgt := 254) C dX1_manyNow_3 (by decide) (by decide) (by decide) rfl (by decide) ?_
    refine k_aload_n C dX1_manyNow_254 rfl ?_
    refine k_iload_n C dX1_manyNow_255 rfl ?_
    refine k_iconst C dX1_manyNow_256 ?_
    refine k_isub C dX1_manyNow_257 ?_
    refine kx_S C rfl ms_X1_269 dX1_manyNow_258 ((c_kindOf (κ := 3) (by unfold i32; omega))) rfl rfl (Nat.le_of_ble_eq_true rfl) ⟨(Nat.le_of_ble_eq_true rfl), (Nat.le_of_ble_eq_true rfl)⟩ (by omega) (fun v kk hp_ => ?_) (fun E1 h1 hx => absurd (by omega) hx.1)
    obtain ⟨_, rfl, rfl⟩ := hp_
    refine kx_V C rfl mv_X1_400 dX1_manyNow_261 ((c_decidedBy (κ := 3) H hσ (by omega))) (by assumption) rfl rfl (Nat.le_of_ble_eq_true rfl) ⟨(Nat.le_of_ble_eq_true rfl), (Nat.le_of_ble_eq_true rfl)⟩ (by omega) (fun v kk hp_ => ?_) (fun _ _ hx => hx.elim)
    obtain ⟨rfl, rfl⟩ := hp_
    exact k_iret C E dX1_manyNow_264 (by omega) ⟨rfl, rfl⟩
def manyK (what : Int) : Nat := if 0 ≤ what ∧ what ≤ 10 then 0 else 1
theorem c_manyX {w : Wd} {h : Hp} {x : Nat} {X : XL} {σ : Sg} {what : Int} (H : isX w h x X σ) (hσ : SgOk σ) (hw : i32 what) : Ct w yX1_many (ws_ yX1_many cX1_many 2 (some FieldType.int)) 12 285 2 12 [.ref x, jI what] h (fun v h' => manyK what = 0 ∧ v = some (jI (manyC σ what)) ∧ Ext h h') (fun E h' => exOf [sIAE] (manyK what) E ∧ Ext h h') := by
  have hX := H.1
  unfold i32 at hw
  unfold manyK
  refine Ct.of (by decide) [some (.ref x), some (jI what)] rfl (Nat.le_of_ble_eq_true rfl) (fun K C E N0 => ?_)
  refine k_iload_n C dX1_many_0 rfl ?_
  refine k_iconst C dX1_many_1 ?_
  refine k_bipush C dX1_many_2 (by decide) ?_
  refine kx_S C rfl ms_X1_170 dX1_many_4 ((c_mustBeIn (by omega))) rfl rfl (Nat.le_of_ble_eq_true rfl) ⟨(Nat.le_of_ble_eq_true rfl), (Nat.le_of_ble_eq_true rfl)⟩ (by omega) (fun v kk hp_ => ?_) (fun E1 h1 hx => x_pass C E N0 (by omega) ⟨by rw [if_neg hx.1, hx.2.1]; exact ex1, hx.2.2⟩)
  obtain ⟨hin, rfl, rfl⟩ := hp_
  rw [if_pos hin] at E
  refine k_aload_n C dX1_many_7 rfl ?_
  refine k_iload_n C dX1_many_8 rfl ?_
  refine kx_V C rfl mv_X1_404 dX1_many_9 ((c_manyNow H hσ hin)) (by assumption) rfl rfl (Nat.le_of_ble_eq_true rfl) ⟨(Nat.le_of_ble_eq_true rfl), (Nat.le_of_ble_eq_true rfl)⟩ (by omega) (fun v kk hp_ => ?_) (fun _ _ hx => hx.elim)
  obtain ⟨rfl, rfl⟩ := hp_
  exact k_iret C E dX1_many_12 (by omega) ⟨rfl, rfl, Ext.refl _⟩
/-! ### champions -/
def chScore (m : Mch) (what : Int) : Int := if m.2.1 = some 0 then scoreC m.1 (runN m.1 500 c0) (6 + what) else -1
/-- the best so far, and its score -/
def chL (σ : Sg) (what : Int) : Nat → Int × Int
  | 0 => (-1, -1)
  | i + 1 => (if (chL σ what i).2 < chScore (σ.ms i) what then (i : Int) else (chL σ what i).1, max (chL σ what i).2 (chScore (σ.ms i) what))
theorem chScore_b {m : Mch} (hm : MchOk m) {what : Int} (hw : 0 ≤ what ∧ what ≤ 1) : -1 ≤ chScore m what ∧ chScore m what ≤ 1001 := by
  have r1 := runN_c0 hm.1 500
  have o1 := onesC_b r1.1
  obtain ⟨⟨-, ⟨h3, h4, h5, h6, h7, h8⟩, -⟩, -⟩ := r1
  have r2 := (runN_c0 hm.1 500).2
  unfold chScore scoreC
  split
  · split
    · split
      · omega
      · split
        · omega
        · split <;> omega
    · omega
  · omega
theorem chL_b {σ : Sg} (hσ : SgOk σ) {what : Int} (hw : 0 ≤ what ∧ what ≤ 1) : ∀ i : Nat, i ≤ σ.n → (-1 ≤ (chL σ what i).1 ∧ (chL σ what i).1 < 12) ∧ (-1 ≤ (chL σ what i).2 ∧ (chL σ what i).2 ≤ 1001)
  | 0, _ => ⟨⟨Int.le_refl _, show (-1 : Int) < 12 by decide⟩, ⟨Int.le_refl _, show (-1 : Int) ≤ 1001 by decide⟩⟩
  | i + 1, hi => by
    have h1 := chL_b hσ hw i (by omega)
    have h2 := chScore_b (hσ.2.2.1 i (by omega)) hw
    have h3 := hσ.1
    unfold chL
    dsimp only
    split <;> omega
def chamC (σ : Sg) (what : Int) : Int := (chL σ what σ.n).1
theorem c_championNow {w : Wd} {h : Hp} {x : Nat} {X : XL} {σ : Sg} {what : Int} (H : isX w h x X σ) (hσ : SgOk σ) (hw : 0 ≤ what ∧ what ≤ 1) : Ct w yX1_championNow (ws_ yX1_championNow cX1_championNow 6 (some FieldType.int)) 8 169 (2 * σ.n) (1009 * σ.n) [.ref x, jI what] h (fun v h' => v = some (jI (chamC σ what)) ∧ Ext h h') NoX := by
  have hn := hσ.1
  refine Ct.of (by decide) [some (.ref x), some (jI what), none, none, none, none] rfl (Nat.le_of_ble_eq_true rfl) (fun K C E N0 => ?_)
  have loop : ∀ (d i : Nat) (hh : Hp), i + d = σ.n → Ext h hh → Wk w K hh (2 * i) (1009 * i) 7 [some (.ref x), some (jI what), some (jI (chL σ what i).1), some (jI (chL σ what i).2), some (jI (i : Nat)), none] [] := by
    intro d
    induction d with
    | zero =>
      intro i hh hi E1
      have hi' : i = σ.n := by omega
      subst hi'
      have H' := H.ext E1
      have hX := H'.1
      obtain ⟨f, A, F⟩ := H'.at
      have l1 := A.1
      refine k_iload C dX1_championNow_7 rfl ?_
      refine k_aload_n C dX1_championNow_9 rfl ?_
      refine k_get C fg_X1_130 dX1_championNow_10 (by assumption) (by rfl) ?_
      refine kx_F C rfl mf_X1_56 dX1_championNow_13 ((c_size l1)) (by assumption) rfl rfl (Nat.le_of_ble_eq_true rfl) ⟨(Nat.le_of_ble_eq_true rfl), (Nat.le_of_ble_eq_true rfl)⟩ (by omega) (fun v kk hp_ => ?_) (fun _ _ hx => hx.elim)
      obtain ⟨rfl, rfl⟩ := hp_
      refine k_icmp_ge C dX1_championNow_18 (tgt := 103) (by decide) (by omega) (fun g1 => ?_) (fun g2 => ?_)
      · refine k_iload_n C dX1_championNow_103 rfl ?_
        exact k_iret C E dX1_championNow_104 (by omega) ⟨rfl, E1⟩
      · omega
    | succ d ih =>
      intro i hh hi E1
      have H' := H.ext E1
      have hX := H'.1
      obtain ⟨f, A, F⟩ := H'.at
      have l1 := A.1
      obtain ⟨fi, k, hk⟩ := F i (by omega)
      have M := H'.2.2.2.2.1 i (by omega)
      have hok := hσ.2.2.1 i (by omega)
      have b1 := chL_b hσ hw i (by omega)
      have b2 := chScore_b hok hw
      have tail : ∀ (h2 : Hp) (n k : Nat), Ext h h2 → n ≤ 2 * (i + 1) → k ≤ 1009 * (i + 1) → Wk w K h2 n k 75 [some (.ref x), some (jI what), some (jI (chL σ what i).1), some (jI (chL σ what i).2), some (jI (i : Nat)), none] [jI (chScore (σ.ms i) what)] := by
        intro h2 n k E2 hn2 hk2
        refine k_istore C dX1_championNow_75 (Nat.le_of_ble_eq_true rfl) rfl ?_
        refine k_iload C dX1_championNow_77 rfl ?_
        refine k_iload_n C dX1_championNow_79 rfl ?_
        have e2 : max (chL σ what i).2 (chScore (σ.ms i) what) = (chL σ what (i + 1)).2 := rfl
        refine k_icmp_le C dX1_championNow_80 (tgt := 88) (by decide) (by omega) (fun g3 => ?_) (fun g4 => ?_)
        · have e1 : (chL σ what i).1 = (chL σ what (i + 1)).1 := by show _ = (if (chL σ what i).2 < chScore (σ.ms i) what then (i : Int) else (chL σ what i).1); rw [if_neg (by omega)]
          refine k_iload_n C dX1_championNow_88 rfl ?_
          refine k_istore_n C dX1_championNow_89 (Nat.le_of_ble_eq_true rfl) rfl ?_
          refine k_iload_n C dX1_championNow_90 rfl ?_
          refine k_iload C dX1_championNow_91 rfl ?_
          refine k_max C rfl q439 dX1_championNow_93 (by omega) ⟨(Nat.le_of_ble_eq_true rfl), (Nat.le_of_ble_eq_true rfl)⟩ (by omega) ?_
          refine k_istore_n C dX1_championNow_96 (Nat.le_of_ble_eq_true rfl) rfl ?_
          refine k_iinc C dX1_championNow_97 rfl rfl ?_
          refine k_goto C dX1_championNow_100 (tgt := 7) (by decide) ?_
          rw [e2, e1]
          exact Wk.sub (by repeat (first | exact trivial | apply Lle.so | apply Lle.no)) (Wk.widen (n' := 2 * (i + 1)) (k' := 1009 * (i + 1)) (by omega) (by omega) (ih (i + 1) h2 (by omega) E2))
        · have e1 : (i : Int) = (chL σ what (i + 1)).1 := by show _ = (if (chL σ what i).2 < chScore (σ.ms i) what then (i : Int) else (chL σ what i).1); rw [if_pos (by omega)]
          have z := ih (i + 1) h2 (by omega) E2
          rw [← e1, ← e2] at z
          refine k_iload C dX1_championNow_83 rfl ?_
          refine k_goto C dX1_championNow_85 (tgt := 89) (by decide) ?_
          refine k_istore_n C dX1_championNow_89 (Nat.le_of_ble_eq_true rfl) rfl ?_
          refine k_iload_n C dX1_championNow_90 rfl ?_
          refine k_iload C dX1_championNow_91 rfl ?_
          refine k_max C rfl q439 dX1_championNow_93 (by omega) ⟨(Nat.le_of_ble_eq_true rfl), (Nat.le_of_ble_eq_true rfl)⟩ (by omega) ?_
          refine k_istore_n C dX1_championNow_96 (Nat.le_of_ble_eq_true rfl) rfl ?_
          refine k_iinc C dX1_championNow_97 rfl rfl ?_
          refine k_goto C dX1_championNow_100 (tgt := 7) (by decide) ?_
          exact Wk.sub (by repeat (first | exact trivial | apply Lle.so | apply Lle.no)) (Wk.widen (n' := 2 * (i + 1)) (k' := 1009 * (i + 1)) (by omega) (by omega) z)
      refine k_iload C dX1_championNow_7 rfl ?_
      refine k_aload_n C dX1_championNow_9 rfl ?_
      refine k_get C fg_X1_130 dX1_championNow_10 (by assumption) (by rfl) ?_
      refine kx_F C rfl mf_X1_56 dX1_championNow_13 ((c_size l1)) (by assumption) rfl rfl (Nat.le_of_ble_eq_true rfl) ⟨(Nat.le_of_ble_eq_true rfl), (Nat.le_of_ble_eq_true rfl)⟩ (by omega) (fun v kk hp_ => ?_) (fun _ _ hx => hx.elim)
      obtain ⟨rfl, rfl⟩ := hp_
      refine k_icmp_ge C dX1_championNow_18 (tgt := 103) (by decide) (by omega) (fun g1 => ?_) (fun g2 => ?_)
      · omega
      · refine k_aload_n C dX1_championNow_21 rfl ?_
        refine k_get C fg_X1_130 dX1_championNow_22 (by assumption) (by rfl) ?_
        refine k_iload C dX1_championNow_25 rfl ?_
        refine kx_F C rfl mf_X1_60 dX1_championNow_27 ((c_get A (by omega) fi)) (by assumption) rfl rfl (Nat.le_of_ble_eq_true rfl) ⟨(Nat.le_of_ble_eq_true rfl), (Nat.le_of_ble_eq_true rfl)⟩ (by omega) (fun v kk hp_ => ?_) (fun _ _ hx => hx.elim)
        obtain ⟨rfl, rfl⟩ := hp_
        refine k_castO C ck_X1_160_3 dX1_championNow_32 (by assumption) ?_
        refine k_gets (i0 := 1) C (by simp [stAll]) q163 dX1_championNow_35 ?_
        refine kx_V C rfl mv_X1_290 dX1_championNow_38 ((c_isDecidedBy (j := 0) M hok (by omega))) (by assumption) rfl rfl (Nat.le_of_ble_eq_true rfl) ⟨(Nat.le_of_ble_eq_true rfl), (Nat.le_of_ble_eq_true rfl)⟩ (by omega) (fun v kk hp_ => ?_) (fun _ _ hx => hx.elim)
        obtain ⟨rfl, rfl⟩ := hp_
        refine k_ifeq_b C dX1_championNow_41 (tgt := 74) (by decide) (fun g3 => ?_) (fun g4 => ?_)
        · refine k_iconst C dX1_championNow_74 ?_
          have e : (-1 : Int) = chScore (σ.ms i) what := (if_neg (of_decide_eq_false g3)).symm
          rw [e]
          exact tail kk _ _ E1 (by omega) (by omega)
        · have e : scoreC (σ.ms i).1 (runN (σ.ms i).1 500 c0) (6 + what) = chScore (σ.ms i) what := (if_pos (of_decide_eq_true g4)).symm
          have r1 := runN_c0 hok.1 500
          refine k_aload_n C dX1_championNow_44 rfl ?_
          refine k_get C fg_X1_130 dX1_championNow_45 (by assumption) (by rfl) ?_
          refine k_iload C dX1_championNow_48 rfl ?_
          refine kx_F C rfl mf_X1_60 dX1_championNow_50 ((c_get A (by omega) fi)) (by assumption) rfl rfl (Nat.le_of_ble_eq_true rfl) ⟨(Nat.le_of_ble_eq_true rfl), (Nat.le_of_ble_eq_true rfl)⟩ (by omega) (fun v kk hp_ => ?_) (fun _ _ hx => hx.elim)
          obtain ⟨rfl, rfl⟩ := hp_
          refine k_castO C ck_X1_160_3 dX1_championNow_55 (by assumption) ?_
          refine k_sipush C dX1_championNow_58 (by decide) ?_
          refine kx_S C rfl ms_X1_222 dX1_championNow_61 ((c_walked (R := 500) M hok (by omega))) rfl rfl (Nat.le_of_ble_eq_true rfl) ⟨(Nat.le_of_ble_eq_true rfl), (Nat.le_of_ble_eq_true rfl)⟩ (by omega) (fun v k2 hp_ => ?_) (fun _ _ hx => hx.elim)
          obtain ⟨q, tp, rfl, q0, t0, W2, E2⟩ := hp_
          have W21 := W2.1
          refine k_bipush C dX1_championNow_64 (by decide) ?_
          refine k_iload_n C dX1_championNow_66 rfl ?_
          refine k_iadd C dX1_championNow_67 ?_
          refine kx_S C rfl ms_X1_340 dX1_championNow_68 ((c_scoreOf (by omega) (by omega) W2 (M.2.ext E2) hok.1 r1.1 r1.2)) rfl rfl (Nat.le_of_ble_eq_true rfl) ⟨(Nat.le_of_ble_eq_true rfl), (Nat.le_of_ble_eq_true rfl)⟩ (by omega) (fun v k3 hp_ => ?_) (fun _ _ hx => hx.elim)
          obtain ⟨rfl, rfl⟩ := hp_
          rw [e]
          refine k_goto C dX1_championNow_71 (tgt := 75) (by decide) ?_
          exact tail k3 _ _ (E1.trans E2) (by omega) (by omega)
  refine k_iconst C dX1_championNow_0 ?_
  refine k_istore_n C dX1_championNow_1 (Nat.le_of_ble_eq_true rfl) rfl ?_
  refine k_iconst C dX1_championNow_2 ?_
  refine k_istore_n C dX1_championNow_3 (Nat.le_of_ble_eq_true rfl) rfl ?_
  refine k_iconst C dX1_championNow_4 ?_
  refine k_istore C dX1_championNow_5 (Nat.le_of_ble_eq_true rfl) rfl ?_
  exact loop σ.n 0 h (by omega) (Ext.refl h)
def chamK (what : Int) : Nat := if 0 ≤ what ∧ what ≤ 1 then 0 else 1
theorem c_championX {w : Wd} {h : Hp} {x : Nat} {X : XL} {σ : Sg} {what : Int} (H : isX w h x X σ) (hσ : SgOk σ) (hw : i32 what) : Ct w yX1_champion (ws_ yX1_champion cX1_champion 2 (some FieldType.int)) 10 242 (1 + 2 * σ.n) (6 + 1009 * σ.n) [.ref x, jI what] h (fun v h' => chamK what = 0 ∧ v = some (jI (chamC σ what)) ∧ Ext h h') (fun E h' => exOf [sIAE] (chamK what) E ∧ Ext h h') := by
  have hX := H.1
  unfold i32 at hw
  unfold chamK
  refine Ct.of (by decide) [some (.ref x), some (jI what)] rfl (Nat.le_of_ble_eq_true rfl) (fun K C E N0 => ?_)
  refine k_iload_n C dX1_champion_0 rfl ?_
  refine k_iconst C dX1_champion_1 ?_
  refine k_iconst C dX1_champion_2 ?_
  refine kx_S C rfl ms_X1_170 dX1_champion_3 ((c_mustBeIn (by omega))) rfl rfl (Nat.le_of_ble_eq_true rfl) ⟨(Nat.le_of_ble_eq_true rfl), (Nat.le_of_ble_eq_true rfl)⟩ (by omega) (fun v kk hp_ => ?_) (fun E1 h1 hx => x_pass C E N0 (by omega) ⟨by rw [if_neg hx.1, hx.2.1]; exact ex1, hx.2.2⟩)
  obtain ⟨hin, rfl, rfl⟩ := hp_
  rw [if_pos hin] at E
  refine k_aload_n C dX1_champion_6 rfl ?_
  refine k_iload_n C dX1_champion_7 rfl ?_
  refine kx_V C rfl mv_X1_382 dX1_champion_8 ((c_championNow H hσ hin)) (by assumption) rfl rfl (Nat.le_of_ble_eq_true rfl) ⟨(Nat.le_of_ble_eq_true rfl), (Nat.le_of_ble_eq_true rfl)⟩ (by omega) (fun v k1 hp_ => ?_) (fun _ _ hx => hx.elim)
  obtain ⟨rfl, E1⟩ := hp_
  exact k_iret C E dX1_champion_11 (by omega) ⟨rfl, rfl, E1⟩
