/-! ===== doubt, the plain side ===== -/
set_option maxRecDepth 100000
def dbtM (κ : Int) (mc : Mch) : Mch := if kindN mc = κ then (mc.1, none, -1, -1) else mc
/-- the first j machines opened where they are decided so -/
def dbtS (κ : Int) (σ : Sg) (j : Nat) : Sg := (σ.n, fun i => if i < j then dbtM κ (σ.ms i) else σ.ms i, σ.k, σ.tg, σ.tk, σ.rf, σ.bk)
def dbtN (κ : Int) (σ : Sg) : Nat → Nat
  | 0 => 0
  | j + 1 => dbtN κ σ j + (if kindN (σ.ms j) = κ then 1 else 0)
theorem dbtS_at (κ : Int) (σ : Sg) (j : Nat) : (dbtS κ σ j).ms j = σ.ms j := if_neg (Nat.lt_irrefl j)
theorem dbtS_miss {κ : Int} {σ : Sg} {j : Nat} (h : kindN (σ.ms j) ≠ κ) : dbtS κ σ (j + 1) = dbtS κ σ j := by
  unfold dbtS
  congr 2
  funext i
  by_cases e : i = j
  · subst e
    rw [if_pos (by omega), if_neg (by omega), dbtM, if_neg h]
  · by_cases l : i < j
    · rw [if_pos (by omega), if_pos l]
    · rw [if_neg (by omega), if_neg l]
theorem dbtS_hit {κ : Int} {σ : Sg} {j : Nat} (h : kindN (σ.ms j) = κ) : dbtS κ σ (j + 1) = putG (dbtS κ σ j) j ((σ.ms j).1, none, -1, -1) σ.tk σ.rf σ.bk := by
  unfold dbtS putG
  congr 2
  funext i
  by_cases e : i = j
  · subst e
    rw [if_pos (by omega), upN_at, dbtM, if_pos h]
  · rw [upN_ne e]
    show (if i < j + 1 then dbtM κ (σ.ms i) else σ.ms i) = (if i < j then dbtM κ (σ.ms i) else σ.ms i)
    by_cases l : i < j
    · rw [if_pos (by omega), if_pos l]
    · rw [if_neg (by omega), if_neg l]
