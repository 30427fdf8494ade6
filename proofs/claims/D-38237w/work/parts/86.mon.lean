/-! ===== takeBack, enter: the gate's monitor ===== -/
set_option maxRecDepth 100000
theorem c_takeBack {w : Wd} {h : Hp} {x i : Nat} {X : XL} {σ : Sg} (H : isX w h x X σ) (hσ : SgOk σ) (hi : i < σ.n) : Ct w yX1_takeBack (wsW_ yX1_takeBack cX1_takeBack 5 (some FieldType.boolean) [(12, 45, 48, 0), (48, 52, 48, 0)]) 4 120 0 0 [.ref x, .ref (X.A i).1] h (fun v h' => v = some (jI (b2i (σ.ms i).2.1.isSome)) ∧ isMc w h' (X.A i).1 (X.A i).2.1 (X.A i).2.2.1 (X.A i).2.2.2 ((σ.ms i).1, none, -1, -1) ∧ h'.2 X.g = some (.inl (1, [jI (σ.tk : Nat), jI (σ.rf : Nat), jI ((σ.bk + (if (σ.ms i).2.1.isSome then 1 else 0) : Nat) : Int)])) ∧ Upd h h' [(X.A i).1, X.g]) NoX := by
  sorry
theorem c_enter {w : Wd} {h : Hp} {x : Nat} {X : XL} {σ : Sg} {t : Bool} (H : isX w h x X σ) (hσ : SgOk σ) : Ct w yX1_enter (wsW_ yX1_enter cX1_enter 4 none [(11, 33, 36, 0), (36, 39, 36, 0), (42, 49, 52, 249)]) 10 10500 3 37 [.ref x, jI (b2i t)] h (fun v h' => v = none ∧ h'.2 X.g = some (.inl (1, [jI ((if t then σ.tk + 1 else σ.tk : Nat) : Int), jI ((if t then σ.rf else σ.rf + 1 : Nat) : Int), jI (σ.bk : Nat)])) ∧ Upd h h' [X.g]) NoX := by
  sorry
