/-! ===== the law: the state from step to step, the room ===== -/
set_option maxRecDepth 100000
/-- from a state to the next -/
def stp (σ σ' : Sg) : Prop := SgOk σ' ∧ σ'.tk ≤ σ.tk + 1 ∧ σ'.rf ≤ σ.rf + 1 ∧ σ'.bk ≤ σ.bk + 12
def Inv (σ : Sg) (j : Nat) : Prop := SgOk σ ∧ σ.n ≤ j ∧ σ.tk ≤ j ∧ σ.rf ≤ j ∧ σ.bk ≤ 12 * j
theorem Inv.go {σ σ' : Sg} {j : Nat} (I : Inv σ j) (S : stp σ σ') (hn : σ'.n ≤ σ.n + 1) : Inv σ' (j + 1) := by
  obtain ⟨i0, i1, i2, i3, i4⟩ := I
  obtain ⟨s1, s2, s3, s4⟩ := S
  exact ⟨s1, by omega, by omega, by omega, by omega⟩
theorem stp.refl {σ : Sg} (h : SgOk σ) : stp σ σ := ⟨h, by omega, by omega, by omega⟩
theorem addM_ok {σ : Sg} {m : Mch} (hσ : SgOk σ) (hn : σ.n < 12) (hm : MchOk m) : stp σ (addM σ m) := by
  refine ⟨⟨hn, hσ.2.1, fun i hi => ?_, hσ.2.2.2⟩, Nat.le_succ _, Nat.le_succ _, Nat.le_add_right _ _⟩
  show MchOk (upN σ.ms σ.n m i)
  by_cases e : i = σ.n
  · rw [e, upN_at]; exact hm
  · rw [upN_ne e]
    have hi' : i < σ.n + 1 := hi
    exact hσ.2.2.1 i (by omega)
theorem new_ok {T : Tb} (hT : TbOk T) : MchOk (T, none, -1, -1) := ⟨hT, fun κ e => (by cases e), by dsimp only; omega⟩
theorem mach_stp {σ : Sg} {z : Int} (hσ : SgOk σ) (h : machK σ z = 0) : stp σ (addM σ ((z.toNat, fun _ => none), none, -1, -1)) := by
  unfold machK at h
  by_cases h1 : 2 ≤ z ∧ z ≤ 4
  · rw [if_pos h1] at h
    by_cases h2 : σ.n < 12
    · refine addM_ok hσ h2 (new_ok ⟨by show 2 ≤ z.toNat; omega, by show z.toNat ≤ 4; omega, fun k r _ _ e => (by cases e)⟩)
    · rw [if_neg h2] at h; cases h
  · rw [if_neg h1] at h; cases h
theorem child_stp {σ : Sg} {i z : Int} (hσ : SgOk σ) (h : childK σ i z = 0) : stp σ (addM σ (childT (σ.ms i.toNat).1 z, none, -1, -1)) := by
  unfold childK mchOk at h
  by_cases h1 : 0 ≤ i ∧ i < σ.n
  · rw [decide_eq_true h1, if_pos rfl] at h
    by_cases h2 : 0 ≤ z ∧ z ≤ waysC (σ.ms i.toNat).1 (runN (σ.ms i.toNat).1 500 c0) - 1
    · rw [if_pos h2] at h
      by_cases h3 : σ.n < 12
      · have hT := (hσ.2.2.1 i.toNat (by omega)).1
        have hr := reachN_b hT
        have hw : waysC (σ.ms i.toNat).1 (runN (σ.ms i.toNat).1 500 c0) ≤ 1 + 4 * reachN (σ.ms i.toNat).1 := by unfold waysC; split <;> omega
        exact addM_ok hσ h3 (new_ok (tset_ok hT (childR_ok hT (by omega))))
      · rw [if_neg h3] at h; cases h
    · rw [if_neg h2] at h; cases h
  · rw [decide_eq_false h1, if_neg (by decide)] at h; cases h
theorem tag_stp {σ : Sg} {c z o : Int} (hσ : SgOk σ) (h : tgK σ c z o = 0) : stp σ (addT σ (c.toNat, z.toNat, o.toNat)) := by
  unfold tgK at h
  by_cases h1 : (1 ≤ c ∧ c ≤ 3) ∧ (1 ≤ z ∧ z ≤ 63) ∧ (1 ≤ o ∧ o ≤ 63)
  · rw [if_pos h1] at h
    by_cases h2 : σ.k < 4
    · refine ⟨⟨hσ.1, h2, hσ.2.2.1, fun i hi => ?_, hσ.2.2.2.2⟩, Nat.le_succ _, Nat.le_succ _, Nat.le_add_right _ _⟩
      show TgOk (upN σ.tg σ.k _ i)
      by_cases e : i = σ.k
      · rw [e, upN_at]
        refine ⟨⟨?_, ?_⟩, ⟨?_, ?_⟩, ⟨?_, ?_⟩⟩ <;> dsimp only <;> omega
      · rw [upN_ne e]
        have hi' : i < σ.k + 1 := hi
        exact hσ.2.2.2.1 i (by omega)
    · rw [if_neg h2] at h; cases h
  · rw [if_neg h1] at h; cases h
theorem ref_stp {σ : Sg} {i t b y v x : Int} {fl : Bool} (hσ : SgOk σ) (hb : σ.bk ≤ 90000) (h : refK σ i t b y v x fl = 0) : stp σ (putG σ i.toNat (amdM (σ.ms i.toNat) (2 * t + b) (y, v, x)) σ.tk σ.rf (σ.bk + (if (σ.ms i.toNat).2.1.isSome then 1 else 0))) := by
  unfold refK cellOk at h
  have hi : (if (σ.ms i.toNat).2.1.isSome then 1 else 0 : Nat) ≤ 1 := by split <;> omega
  by_cases h1 : (0 ≤ i ∧ i < σ.n) ∧ (0 ≤ t ∧ t < (σ.ms i.toNat).1.1) ∧ (0 ≤ b ∧ b < 2)
  · rw [decide_eq_true h1, if_pos rfl] at h
    by_cases h2 : (0 ≤ y ∧ y ≤ 1) ∧ (v = 1 ∨ v = -1) ∧ (0 ≤ x ∧ x ≤ ((σ.ms i.toNat).1.1 : Nat))
    · have hT := (hσ.2.2.1 i.toNat (by omega)).1
      refine ⟨hσ.put (new_ok (tset_ok hT (r := (y, v, x)) ⟨?_, h2.2.1, h2.2.2.1, h2.2.2.2⟩)) hσ.2.2.2.2.1 hσ.2.2.2.2.2.1 (by omega), Nat.le_succ _, Nat.le_succ _, ?_⟩
      · dsimp only; omega
      · show σ.bk + _ ≤ σ.bk + 12
        omega
    · rw [if_neg h2] at h; cases h
  · rw [decide_eq_false h1, if_neg (by decide)] at h; cases h
theorem prv_stp {σ : Sg} {i k a b : Int} (hσ : SgOk σ) (hb : σ.tk ≤ 90000 ∧ σ.rf ≤ 90000) (h : prvK σ i k a b = 0) : stp σ (prvG σ i.toNat k a b) := by
  unfold prvK mchOk at h
  by_cases h1 : 0 ≤ i ∧ i < σ.n
  · rw [decide_eq_true h1, if_pos rfl] at h
    by_cases h2 : certB k a b = true
    · unfold prvG
      have hm := hσ.2.2.1 i.toNat (by omega)
      split
      · refine ⟨hσ.put ⟨hm.1, fun κ e => ?_, ?_⟩ (by omega) hσ.2.2.2.2.2.1 hσ.2.2.2.2.2.2, Nat.le_refl _, Nat.le_succ _, Nat.le_add_right _ _⟩
        · cases e
          unfold certB at h2
          simp at h2
          omega
        · unfold certB fitB at h2
          simp only [Bool.and_eq_true, decide_eq_true_eq] at h2
          obtain ⟨-, h3⟩ := h2
          dsimp only
          split at h3
          · simp at h3; omega
          · split at h3
            · simp at h3; omega
            · split at h3
              · simp at h3; omega
              · simp at h3; omega
      · exact ⟨⟨hσ.1, hσ.2.1, hσ.2.2.1, hσ.2.2.2.1, hσ.2.2.2.2.1, by show σ.rf + 1 ≤ 100000; omega, hσ.2.2.2.2.2.2⟩, Nat.le_succ _, Nat.le_refl _, Nat.le_add_right _ _⟩
    · rw [if_neg h2] at h; cases h
  · rw [decide_eq_false h1, if_neg (by decide)] at h; cases h
theorem dbt_stp {σ : Sg} {κ : Int} (hσ : SgOk σ) (hb : σ.bk ≤ 90000) : stp σ (dbtG κ σ) := by
  refine ⟨dbtC_ok hσ hb σ.n (Nat.le_refl _), Nat.le_succ _, Nat.le_succ _, ?_⟩
  show σ.bk + dbtN κ σ σ.n ≤ σ.bk + 12
  have := dbtN_le κ σ σ.n
  have := hσ.1
  omega
theorem dec_stp {σ : Sg} {i : Int} (hσ : SgOk σ) (h : decK σ i = 0) : stp σ (putG σ i.toNat (decM (σ.ms i.toNat)) σ.tk σ.rf σ.bk) := by
  unfold decK mchOk at h
  by_cases h1 : 0 ≤ i ∧ i < σ.n
  · exact ⟨hσ.put (decM_ok (hσ.2.2.1 i.toNat (by omega))) hσ.2.2.2.2.1 hσ.2.2.2.2.2.1 hσ.2.2.2.2.2.2, Nat.le_succ _, Nat.le_succ _, Nat.le_add_right _ _⟩
  · rw [decide_eq_false h1, if_neg (by decide)] at h; cases h
/-! ### the room that j steps take -/
def Bc (c : Nat) : Nat := if c ≤ 2 then 3500 else 1700 * c
def Bs (c : Nat) : Nat := if c ≤ 3 then 88000 else 27100 * c
def NN (j c : Nat) : Nat := 100 + 40 * c + (j - c) * Bc c
def SS (j c : Nat) : Nat := 100 + 3300 * c + (j - c) * Bs c
theorem Bc_mono (c : Nat) : Bc c ≤ Bc (c + 1) := by unfold Bc; split <;> split <;> omega
theorem Bs_mono (c : Nat) : Bs c ≤ Bs (c + 1) := by unfold Bs; split <;> split <;> omega
theorem Bc_le (c : Nat) : 3500 ≤ Bc c ∧ 1700 * c ≤ Bc c := by unfold Bc; split <;> omega
theorem Bs_le (c : Nat) : 88000 ≤ Bs c ∧ 27100 * c ≤ Bs c ∧ (c ≤ 3 → Bs c = 88000) := by unfold Bs; split <;> omega
theorem NN_same {j c : Nat} (h : c ≤ j) : NN (j + 1) c = NN j c + Bc c := by
  unfold NN
  have := Nat.succ_mul (j - c) (Bc c)
  have := Nat.succ_mul (j - c) (Bs c)
  rw [show j + 1 - c = (j - c).succ by omega]
  omega
theorem SS_same {j c : Nat} (h : c ≤ j) : SS (j + 1) c = SS j c + Bs c := by
  unfold SS
  have := Nat.succ_mul (j - c) (Bc c)
  have := Nat.succ_mul (j - c) (Bs c)
  rw [show j + 1 - c = (j - c).succ by omega]
  omega
theorem NN_grow {j c : Nat} : NN j c + 40 ≤ NN (j + 1) (c + 1) := by
  unfold NN
  rw [Nat.add_sub_add_right]
  have := Nat.mul_le_mul_left (j - c) (Bc_mono c)
  omega
theorem SS_grow {j c : Nat} : SS j c + 3300 ≤ SS (j + 1) (c + 1) := by
  unfold SS
  rw [Nat.add_sub_add_right]
  have := Nat.mul_le_mul_left (j - c) (Bs_mono c)
  omega
theorem room_ok : ∀ j, j ≤ 32 → ∀ c, c ≤ 12 → NN j c ≤ 600192 ∧ SS j c ≤ 7294250 := by decide +kernel
theorem room_at {j c : Nat} (hj : j < 32) (hc : c ≤ 12) (h : c ≤ j) : NN j c + Bc c ≤ 600192 ∧ SS j c + Bs c ≤ 7294250 := by
  rw [← NN_same h, ← SS_same h]
  exact room_ok (j + 1) hj c hc
/-! ### the script's call -/
theorem jI_mod {z : Int} (h : i32 z) : jI z = jI (((z % 4294967296).toNat : Nat) : Int) := by
  obtain ⟨h1, h2⟩ := h
  by_cases h0 : 0 ≤ z
  · rw [show (((z % 4294967296).toNat : Nat) : Int) = z by omega]
  · rw [show (((z % 4294967296).toNat : Nat) : Int) = z + 4294967296 by omega]
    show Value.int (Int32.ofInt z) = Value.int (Int32.ofInt (z + 4294967296))
    rw [← oi_add, show Int32.ofInt 4294967296 = 0 by decide, Int32.add_zero]
theorem k_iand31 {w : Wd} {K : KT} {own nm : String} {cc : ByteArray} {nL : Nat} {ret : Option FieldType} {fr lo mc ms : Nat} {h : Hp} {n k pc : Nat} {L : List (Option Value)} {st : List Value} {z : Int} (C : Cx w K own cc nL ret nm fr lo mc ms) (hz : i32 z) (hd : decode cc pc = .ok (.iand, 1)) (kk : Wk w K h n k (pc + 1) L (jI (z % 32) :: st)) : Wk w K h n k pc L (jI 31 :: jI z :: st) := by
  rw [jI_mod hz]
  refine k_iandB (a := (z % 4294967296).toNat) (b := 31) C hd (by omega) (by omega) ?_
  have e : ((z % 4294967296).toNat &&& 31 : Nat) = (z % 32).toNat := by
    rw [show (31 : Nat) = 2 ^ 5 - 1 from rfl, Nat.and_two_pow_sub_one_eq_mod]
    omega
  rw [e, show (((z % 32).toNat : Nat) : Int) = z % 32 by omega]
  exact kk
theorem lcmp_self (x : Int64) : lg_cmp x x = Int32.ofInt 0 := by rw [show Int32.ofInt 0 = 0 from rfl]; exact (lg_cmp_eq x x).mpr rfl
