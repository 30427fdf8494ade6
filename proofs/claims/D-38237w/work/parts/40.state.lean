/-! ===== the component's state; what is asked of it ===== -/
set_option maxRecDepth 100000
/-- machines: how many, which; tags: how many, which; taken, refused, taken back -/
abbrev Sg : Type := Nat × (Nat → Mch) × Nat × (Nat → Tg) × Nat × Nat × Nat
abbrev Sg.n (σ : Sg) : Nat := σ.1
abbrev Sg.ms (σ : Sg) : Nat → Mch := σ.2.1
abbrev Sg.k (σ : Sg) : Nat := σ.2.2.1
abbrev Sg.tg (σ : Sg) : Nat → Tg := σ.2.2.2.1
abbrev Sg.tk (σ : Sg) : Nat := σ.2.2.2.2.1
abbrev Sg.rf (σ : Sg) : Nat := σ.2.2.2.2.2.1
abbrev Sg.bk (σ : Sg) : Nat := σ.2.2.2.2.2.2
def SgOk (σ : Sg) : Prop := σ.n ≤ 12 ∧ σ.k ≤ 4 ∧ (∀ i, i < σ.n → MchOk (σ.ms i)) ∧ (∀ i, i < σ.k → TgOk (σ.tg i)) ∧ (σ.tk ≤ 100000 ∧ σ.rf ≤ 100000 ∧ σ.bk ≤ 100000)
/-- where the component lies: the machines' list, its array, its room; the tags' the same; the gate; the machines (machine, table, list, array); the tags (tag, words) -/
abbrev XL : Type := (Nat × Nat × Nat) × (Nat × Nat × Nat) × Nat × (Nat → Nat × Nat × Nat × Nat) × (Nat → Nat × Nat)
abbrev XL.lm (X : XL) : Nat := X.1.1
abbrev XL.am (X : XL) : Nat := X.1.2.1
abbrev XL.cm (X : XL) : Nat := X.1.2.2
abbrev XL.lt (X : XL) : Nat := X.2.1.1
abbrev XL.at (X : XL) : Nat := X.2.1.2.1
abbrev XL.ct (X : XL) : Nat := X.2.1.2.2
abbrev XL.g (X : XL) : Nat := X.2.2.1
abbrev XL.A (X : XL) : Nat → Nat × Nat × Nat × Nat := X.2.2.2.1
abbrev XL.B (X : XL) : Nat → Nat × Nat := X.2.2.2.2
def isX (w : Wd) (h : Hp) (x : Nat) (X : XL) (σ : Sg) : Prop :=
  h.2 x = some (.inl (0, [.ref X.lm, .ref X.lt, .ref X.g])) ∧ (∃ f, isAL w h X.lm X.am σ.n X.cm f ∧ ∀ i : Nat, i < σ.n → f i = some (X.A i).1) ∧ (∃ f, isAL w h X.lt X.at σ.k X.ct f ∧ ∀ i : Nat, i < σ.k → f i = some (X.B i).1) ∧
  h.2 X.g = some (.inl (1, [jI (σ.tk : Nat), jI (σ.rf : Nat), jI (σ.bk : Nat)])) ∧ (∀ i, i < σ.n → isMc w h (X.A i).1 (X.A i).2.1 (X.A i).2.2.1 (X.A i).2.2.2 (σ.ms i)) ∧ (∀ i, i < σ.k → isTg h (X.B i).1 (X.B i).2 (σ.tg i))
theorem isX.ext {w : Wd} {h h' : Hp} {x : Nat} {X : XL} {σ : Sg} (E : Ext h h') (H : isX w h x X σ) : isX w h' x X σ := by
  obtain ⟨h1, ⟨f, h2, h3⟩, ⟨g, h4, h5⟩, h6, h7, h8⟩ := H
  exact ⟨E.2 _ _ h1, ⟨f, h2.ext E, h3⟩, ⟨g, h4.ext E, h5⟩, E.2 _ _ h6, fun i hi => (h7 i hi).ext E, fun i hi => (h8 i hi).ext E⟩
/-- the exception that goes with a number: the first of the list with 1, .. -/
def exOf (l : List String) (c : Nat) (E : String) : Prop := 0 < c ∧ l[c - 1]? = some E
theorem ex1 {a : String} {l : List String} : exOf (a :: l) 1 a := ⟨by decide, rfl⟩
theorem ex2 {a b : String} {l : List String} : exOf (b :: a :: l) 2 a := ⟨by decide, rfl⟩
theorem ex3 {a b c : String} {l : List String} : exOf (c :: b :: a :: l) 3 a := ⟨by decide, rfl⟩
/-- an exception of a callee's goes on, the heap having grown -/
theorem x_on {w : Wd} {K : KT} {own nm : String} {cc : ByteArray} {nL : Nat} {ret : Option FieldType} {fr lo mc ms : Nat} {h : Hp} {n k pc : Nat} {L : List (Option Value)} {st : List Value} {Post : Option Value → Hp → Prop} {PostX : String → Hp → Prop} {E0 : String} (C : Cx w K own cc nL ret nm fr lo mc ms) (E : En w K Post PostX mc ms) (N0 : ∀ x ∈ K.c.exceptionTable.toList, False) (hm : n ≤ mc ∧ k ≤ ms) (hp : PostX E0 h) : Wx w K h n k pc L st E0 := x_pass C E N0 hm hp
theorem c_machineAt {w : Wd} {h : Hp} {x : Nat} {X : XL} {σ : Sg} {m : Int} (H : isX w h x X σ) (hσ : SgOk σ) (hm : i32 m) : Ct w yX1_machineAt (ws_ yX1_machineAt cX1_machineAt 2 (some (FieldType.object "Haltingale$Machine"))) 9 221 1 6 [.ref x, jI m] h (fun v h' => (0 ≤ m ∧ m < σ.n) ∧ v = some (.ref (X.A m.toNat).1) ∧ h' = h) (fun E h' => ¬ (0 ≤ m ∧ m < σ.n) ∧ E = sIOB ∧ Ext h h') := by
  obtain ⟨h1, ⟨f, h2, h3⟩, -, -, h7, -⟩ := H
  have hn := hσ.1
  have l1 := h2.1
  unfold i32 at hm
  refine Ct.of (by decide) [some (.ref x), some (jI m)] rfl (Nat.le_of_ble_eq_true rfl) (fun K C E N0 => ?_)
  refine k_iload_n C dX1_machineAt_0 rfl ?_
  refine k_aload_n C dX1_machineAt_1 rfl ?_
  refine k_get C fg_X1_130 dX1_machineAt_2 (by assumption) (by rfl) ?_
  refine kx_F C rfl mf_X1_56 dX1_machineAt_5 ((c_size l1)) (by assumption) rfl rfl (Nat.le_of_ble_eq_true rfl) ⟨(Nat.le_of_ble_eq_true rfl), (Nat.le_of_ble_eq_true rfl)⟩ (by omega) (fun v kk hp_ => ?_) (fun _ _ hx => hx.elim)
  obtain ⟨rfl, rfl⟩ := hp_
  refine kx_S C rfl ms_X1_157 dX1_machineAt_10 ((c_checkPlace (by omega))) rfl rfl (Nat.le_of_ble_eq_true rfl) ⟨(Nat.le_of_ble_eq_true rfl), (Nat.le_of_ble_eq_true rfl)⟩ (by omega) (fun v kk hp_ => ?_) (fun E1 h1 hx => x_pass C E N0 (by omega) hx)
  obtain ⟨hin, rfl, rfl⟩ := hp_
  have e : ((m.toNat : Nat) : Int) = m := by omega
  have hf := h3 m.toNat (by omega)
  rw [e] at hf
  obtain ⟨⟨k, hk, -⟩, -⟩ := h7 m.toNat (by omega)
  refine k_aload_n C dX1_machineAt_13 rfl ?_
  refine k_get C fg_X1_130 dX1_machineAt_14 (by assumption) (by rfl) ?_
  refine k_iload_n C dX1_machineAt_17 rfl ?_
  refine kx_F C rfl mf_X1_60 dX1_machineAt_18 ((c_get h2 (by omega) hf)) (by assumption) rfl rfl (Nat.le_of_ble_eq_true rfl) ⟨(Nat.le_of_ble_eq_true rfl), (Nat.le_of_ble_eq_true rfl)⟩ (by omega) (fun v kk hp_ => ?_) (fun _ _ hx => hx.elim)
  obtain ⟨rfl, rfl⟩ := hp_
  refine k_castO C ck_X1_160_3 dX1_machineAt_23 (by assumption) ?_
  exact k_aret C (Or.inl ⟨_, rfl⟩) E dX1_machineAt_26 (by omega) ⟨hin, rfl, rfl⟩
theorem c_cellAt {w : Wd} {h : Hp} {x : Nat} {X : XL} {σ : Sg} {m s b : Int} (H : isX w h x X σ) (hσ : SgOk σ) (hm : i32 m) (hs : i32 s) (hb : i32 b) : Ct w yX1_cellAt (ws_ yX1_cellAt cX1_cellAt 5 (some (FieldType.object "Haltingale$Table"))) 10 242 3 18 [.ref x, jI m, jI s, jI b] h (fun v h' => ((0 ≤ m ∧ m < σ.n) ∧ (0 ≤ s ∧ s < (σ.ms m.toNat).1.1) ∧ (0 ≤ b ∧ b < 2)) ∧ v = some (.ref (X.A m.toNat).2.1) ∧ h' = h) (fun E h' => ¬ ((0 ≤ m ∧ m < σ.n) ∧ (0 ≤ s ∧ s < (σ.ms m.toNat).1.1) ∧ (0 ≤ b ∧ b < 2)) ∧ E = sIOB ∧ Ext h h') := by
  have hX := H.1
  unfold i32 at hs hb
  refine Ct.of (by decide) [some (.ref x), some (jI m), some (jI s), some (jI b), none] rfl (Nat.le_of_ble_eq_true rfl) (fun K C E N0 => ?_)
  refine k_aload_n C dX1_cellAt_0 rfl ?_
  refine k_iload_n C dX1_cellAt_1 rfl ?_
  refine kx_V C rfl mv_X1_162 dX1_cellAt_2 ((c_machineAt H hσ hm)) (by assumption) rfl rfl (Nat.le_of_ble_eq_true rfl) ⟨(Nat.le_of_ble_eq_true rfl), (Nat.le_of_ble_eq_true rfl)⟩ (by omega) (fun v kk hp_ => ?_) (fun E1 h1 hx => x_pass C E N0 (by omega) ⟨fun z => hx.1 z.1, hx.2⟩)
  obtain ⟨hin, rfl, rfl⟩ := hp_
  obtain ⟨⟨k, hk, -⟩, G⟩ := H.2.2.2.2.1 m.toNat (by omega)
  have G1 := G.1
  have hok := hσ.2.2.1 m.toNat (by omega)
  have hT2 := hok.1.2.1
  refine k_getN C fn_X1_166 dX1_cellAt_5 (by assumption) (by rfl) ?_
  refine k_astore C dX1_cellAt_8 (Nat.le_of_ble_eq_true rfl) rfl ?_
  refine k_iload_n C dX1_cellAt_10 rfl ?_
  refine k_aload C dX1_cellAt_11 rfl ?_
  refine k_getN C fn_X1_73 dX1_cellAt_13 (by assumption) (by rfl) ?_
  refine kx_S C rfl ms_X1_157 dX1_cellAt_16 ((c_checkPlace (by omega))) rfl rfl (Nat.le_of_ble_eq_true rfl) ⟨(Nat.le_of_ble_eq_true rfl), (Nat.le_of_ble_eq_true rfl)⟩ (by omega) (fun v kk hp_ => ?_) (fun E1 h1 hx => x_pass C E N0 (by omega) ⟨fun z => hx.1 (by omega), hx.2⟩)
  obtain ⟨hin2, rfl, rfl⟩ := hp_
  refine k_iload_n C dX1_cellAt_19 rfl ?_
  refine k_iconst C dX1_cellAt_20 ?_
  refine kx_S C rfl ms_X1_157 dX1_cellAt_21 ((c_checkPlace (by omega))) rfl rfl (Nat.le_of_ble_eq_true rfl) ⟨(Nat.le_of_ble_eq_true rfl), (Nat.le_of_ble_eq_true rfl)⟩ (by omega) (fun v kk hp_ => ?_) (fun E1 h1 hx => x_pass C E N0 (by omega) ⟨fun z => hx.1 (by omega), hx.2⟩)
  obtain ⟨hin3, rfl, rfl⟩ := hp_
  refine k_aload C dX1_cellAt_24 rfl ?_
  exact k_aret C (Or.inl ⟨_, rfl⟩) E dX1_cellAt_26 (by omega) ⟨⟨hin, by omega, by omega⟩, rfl, rfl⟩
/-! ### cell -/
def cellOk (σ : Sg) (m s b : Int) : Bool := decide ((0 ≤ m ∧ m < σ.n) ∧ (0 ≤ s ∧ s < (σ.ms m.toNat).1.1) ∧ (0 ≤ b ∧ b < 2))
def mchOk (σ : Sg) (m : Int) : Bool := decide (0 ≤ m ∧ m < σ.n)
def cellK (σ : Sg) (m s b what : Int) : Nat := if cellOk σ m s b then (if 0 ≤ what ∧ what ≤ 2 then 0 else 2) else 1
theorem c_cellX {w : Wd} {h : Hp} {x : Nat} {X : XL} {σ : Sg} {m s b what : Int} (H : isX w h x X σ) (hσ : SgOk σ) (hm : i32 m) (hs : i32 s) (hb : i32 b) (hw : i32 what) : Ct w yX1_cell (ws_ yX1_cell cX1_cell 6 (some FieldType.int)) 11 266 4 24 [.ref x, jI m, jI s, jI b, jI what] h (fun v h' => cellK σ m s b what = 0 ∧ v = some (jI (cellC (σ.ms m.toNat).1 (2 * s + b) what)) ∧ Ext h h') (fun E h' => exOf [sIOB, sIAE] (cellK σ m s b what) E ∧ Ext h h') := by
  have hX := H.1
  unfold i32 at hw
  unfold cellK cellOk
  refine Ct.of (by decide) [some (.ref x), some (jI m), some (jI s), some (jI b), some (jI what), none] rfl (Nat.le_of_ble_eq_true rfl) (fun K C E N0 => ?_)
  refine k_aload_n C dX1_cell_0 rfl ?_
  refine k_iload_n C dX1_cell_1 rfl ?_
  refine k_iload_n C dX1_cell_2 rfl ?_
  refine k_iload_n C dX1_cell_3 rfl ?_
  refine kx_V C rfl mv_X1_197 dX1_cell_4 ((c_cellAt H hσ hm hs hb)) (by assumption) rfl rfl (Nat.le_of_ble_eq_true rfl) ⟨(Nat.le_of_ble_eq_true rfl), (Nat.le_of_ble_eq_true rfl)⟩ (by omega) (fun v kk hp_ => ?_) (fun E1 h1 hx => x_pass C E N0 (by omega) ⟨by rw [decide_eq_false hx.1]; rw [hx.2.1]; first | exact ex1 | exact ex2 | exact ex3, hx.2.2⟩)
  obtain ⟨hin, rfl, rfl⟩ := hp_
  rw [decide_eq_true hin] at E
  obtain ⟨⟨k, hk, -⟩, G⟩ := H.2.2.2.2.1 m.toNat (by omega)
  have hok := hσ.2.2.1 m.toNat (by omega)
  refine k_astore C dX1_cell_7 (Nat.le_of_ble_eq_true rfl) rfl ?_
  refine k_iload C dX1_cell_9 rfl ?_
  refine k_iconst C dX1_cell_11 ?_
  refine k_iconst C dX1_cell_12 ?_
  refine kx_S C rfl ms_X1_170 dX1_cell_13 ((c_mustBeIn (by omega))) rfl rfl (Nat.le_of_ble_eq_true rfl) ⟨(Nat.le_of_ble_eq_true rfl), (Nat.le_of_ble_eq_true rfl)⟩ (by omega) (fun v kk hp_ => ?_) (fun E1 h1 hx => x_pass C E N0 (by omega) ⟨by rw [if_pos rfl, if_neg hx.1]; rw [hx.2.1]; first | exact ex1 | exact ex2 | exact ex3, hx.2.2⟩)
  obtain ⟨hin2, rfl, rfl⟩ := hp_
  refine k_aload C dX1_cell_16 rfl ?_
  refine k_iload_n C dX1_cell_18 rfl ?_
  refine k_iload_n C dX1_cell_19 rfl ?_
  refine k_iload C dX1_cell_20 rfl ?_
  refine kx_S C rfl ms_X1_324 dX1_cell_22 ((c_cellNow G hok.1 hin.2.1 (by omega) hin2)) rfl rfl (Nat.le_of_ble_eq_true rfl) ⟨(Nat.le_of_ble_eq_true rfl), (Nat.le_of_ble_eq_true rfl)⟩ (by omega) (fun v kk hp_ => ?_) (fun _ _ hx => hx.elim)
  obtain ⟨rfl, rfl⟩ := hp_
  exact k_iret C E dX1_cell_25 (by omega) ⟨by rw [if_pos rfl, if_pos hin2], rfl, Ext.refl _⟩
/-! ### ofMachine -/
def ofmK (σ : Sg) (m what : Int) : Nat := if mchOk σ m then (if 0 ≤ what ∧ what ≤ 8 then 0 else 2) else 1
theorem c_ofMachineX {w : Wd} {h : Hp} {x : Nat} {X : XL} {σ : Sg} {m what : Int} (H : isX w h x X σ) (hσ : SgOk σ) (hm : i32 m) (hw : i32 what) : Ct w yX1_ofMachine (ws_ yX1_ofMachine cX1_ofMachine 4 (some FieldType.int)) 10 242 4 1021 [.ref x, jI m, jI what] h (fun v h' => ofmK σ m what = 0 ∧ v = some (jI (machC (σ.ms m.toNat) (runN (σ.ms m.toNat).1 500 c0) what)) ∧ Ext h h') (fun E h' => exOf [sIOB, sIAE] (ofmK σ m what) E ∧ Ext h h') := by
  have hX := H.1
  unfold i32 at hw
  have hm' := hm
  unfold ofmK mchOk
  refine Ct.of (by decide) [some (.ref x), some (jI m), some (jI what), none] rfl (Nat.le_of_ble_eq_true rfl) (fun K C E N0 => ?_)
  refine k_aload_n C dX1_ofMachine_0 rfl ?_
  refine k_iload_n C dX1_ofMachine_1 rfl ?_
  refine kx_V C rfl mv_X1_162 dX1_ofMachine_2 ((c_machineAt H hσ hm')) (by assumption) rfl rfl (Nat.le_of_ble_eq_true rfl) ⟨(Nat.le_of_ble_eq_true rfl), (Nat.le_of_ble_eq_true rfl)⟩ (by omega) (fun v kk hp_ => ?_) (fun E1 h1 hx => x_pass C E N0 (by omega) ⟨by rw [decide_eq_false hx.1]; rw [hx.2.1]; first | exact ex1 | exact ex2 | exact ex3, hx.2.2⟩)
  obtain ⟨hin, rfl, rfl⟩ := hp_
  rw [decide_eq_true hin] at E
  have M := H.2.2.2.2.1 m.toNat (by omega)
  have hok := hσ.2.2.1 m.toNat (by omega)
  have r1 := runN_c0 hok.1 500
  refine k_astore_n C dX1_ofMachine_5 (Nat.le_of_ble_eq_true rfl) rfl ?_
  refine k_iload_n C dX1_ofMachine_6 rfl ?_
  refine k_iconst C dX1_ofMachine_7 ?_
  refine k_bipush C dX1_ofMachine_8 (by decide) ?_
  refine kx_S C rfl ms_X1_170 dX1_ofMachine_10 ((c_mustBeIn (by omega))) rfl rfl (Nat.le_of_ble_eq_true rfl) ⟨(Nat.le_of_ble_eq_true rfl), (Nat.le_of_ble_eq_true rfl)⟩ (by omega) (fun v kk hp_ => ?_) (fun E1 h1 hx => x_pass C E N0 (by omega) ⟨by rw [if_pos rfl, if_neg hx.1]; rw [hx.2.1]; first | exact ex1 | exact ex2 | exact ex3, hx.2.2⟩)
  obtain ⟨hin2, rfl, rfl⟩ := hp_
  refine k_aload_n C dX1_ofMachine_13 rfl ?_
  refine k_aload_n C dX1_ofMachine_14 rfl ?_
  refine k_sipush C dX1_ofMachine_15 (by decide) ?_
  refine kx_S C rfl ms_X1_222 dX1_ofMachine_18 ((c_walked (R := 500) M hok (by omega))) rfl rfl (Nat.le_of_ble_eq_true rfl) ⟨(Nat.le_of_ble_eq_true rfl), (Nat.le_of_ble_eq_true rfl)⟩ (by omega) (fun v k2 hp_ => ?_) (fun _ _ hx => hx.elim)
  obtain ⟨q, tp, rfl, q0, t0, W2, E2⟩ := hp_
  refine k_iload_n C dX1_ofMachine_21 rfl ?_
  refine kx_S C rfl ms_X1_344 dX1_ofMachine_22 ((c_machineNow hin2 (by omega) (M.ext E2) hok W2 r1.1 r1.2)) rfl rfl (Nat.le_of_ble_eq_true rfl) ⟨(Nat.le_of_ble_eq_true rfl), (Nat.le_of_ble_eq_true rfl)⟩ (by omega) (fun v k3 hp_ => ?_) (fun _ _ hx => hx.elim)
  obtain ⟨rfl, rfl⟩ := hp_
  exact k_iret C E dX1_ofMachine_25 (by omega) ⟨by rw [if_pos rfl, if_pos hin2], rfl, E2⟩
/-! ### at, symbol -/
def atK (σ : Sg) (m s what : Int) : Nat := if mchOk σ m then (if (0 ≤ s ∧ s ≤ 500) ∧ (0 ≤ what ∧ what ≤ 7) then 0 else 2) else 1
theorem c_atX {w : Wd} {h : Hp} {x : Nat} {X : XL} {σ : Sg} {m s what : Int} (H : isX w h x X σ) (hσ : SgOk σ) (hm : i32 m) (hs : i32 s) (hw : i32 what) : Ct w yX1_at (ws_ yX1_at cX1_at 5 (some FieldType.int)) 10 242 5 1027 [.ref x, jI m, jI s, jI what] h (fun v h' => atK σ m s what = 0 ∧ v = some (jI (atC (runN (σ.ms m.toNat).1 s.toNat c0) what)) ∧ Ext h h') (fun E h' => exOf [sIOB, sIAE] (atK σ m s what) E ∧ Ext h h') := by
  have hX := H.1
  unfold i32 at hw hs
  have hm' := hm
  unfold atK mchOk
  refine Ct.of (by decide) [some (.ref x), some (jI m), some (jI s), some (jI what), none] rfl (Nat.le_of_ble_eq_true rfl) (fun K C E N0 => ?_)
  refine k_aload_n C dX1_at_0 rfl ?_
  refine k_iload_n C dX1_at_1 rfl ?_
  refine kx_V C rfl mv_X1_162 dX1_at_2 ((c_machineAt H hσ hm')) (by assumption) rfl rfl (Nat.le_of_ble_eq_true rfl) ⟨(Nat.le_of_ble_eq_true rfl), (Nat.le_of_ble_eq_true rfl)⟩ (by omega) (fun v kk hp_ => ?_) (fun E1 h1 hx => x_pass C E N0 (by omega) ⟨by rw [decide_eq_false hx.1]; rw [hx.2.1]; first | exact ex1 | exact ex2 | exact ex3, hx.2.2⟩)
  obtain ⟨hin, rfl, rfl⟩ := hp_
  rw [decide_eq_true hin] at E
  have M := H.2.2.2.2.1 m.toNat (by omega)
  have hok := hσ.2.2.1 m.toNat (by omega)
  refine k_astore C dX1_at_5 (Nat.le_of_ble_eq_true rfl) rfl ?_
  refine k_iload_n C dX1_at_7 rfl ?_
  refine k_iconst C dX1_at_8 ?_
  refine k_sipush C dX1_at_9 (by decide) ?_
  refine kx_S C rfl ms_X1_170 dX1_at_12 ((c_mustBeIn (by omega))) rfl rfl (Nat.le_of_ble_eq_true rfl) ⟨(Nat.le_of_ble_eq_true rfl), (Nat.le_of_ble_eq_true rfl)⟩ (by omega) (fun v kk hp_ => ?_) (fun E1 h1 hx => x_pass C E N0 (by omega) ⟨by rw [if_pos rfl, if_neg (fun z => hx.1 z.1)]; rw [hx.2.1]; first | exact ex1 | exact ex2 | exact ex3, hx.2.2⟩)
  obtain ⟨hin2, rfl, rfl⟩ := hp_
  refine k_iload_n C dX1_at_15 rfl ?_
  refine k_iconst C dX1_at_16 ?_
  refine k_bipush C dX1_at_17 (by decide) ?_
  refine kx_S C rfl ms_X1_170 dX1_at_19 ((c_mustBeIn (by omega))) rfl rfl (Nat.le_of_ble_eq_true rfl) ⟨(Nat.le_of_ble_eq_true rfl), (Nat.le_of_ble_eq_true rfl)⟩ (by omega) (fun v kk hp_ => ?_) (fun E1 h1 hx => x_pass C E N0 (by omega) ⟨by rw [if_pos rfl, if_neg (fun z => hx.1 z.2)]; rw [hx.2.1]; first | exact ex1 | exact ex2 | exact ex3, hx.2.2⟩)
  obtain ⟨hin3, rfl, rfl⟩ := hp_
  have r1 := runN_c0 hok.1 s.toNat
  have sl := slim_c0 hok.1 (n := s.toNat) (by omega)
  obtain ⟨S, hS⟩ : ∃ S : Nat, s = (S : Int) := ⟨s.toNat, by omega⟩
  subst hS
  rw [show ((S : Nat) : Int).toNat = S from rfl] at *
  refine k_aload C dX1_at_22 rfl ?_
  refine k_iload_n C dX1_at_24 rfl ?_
  refine kx_S C rfl ms_X1_222 dX1_at_25 ((c_walked (R := S) M hok (by omega))) rfl rfl (Nat.le_of_ble_eq_true rfl) ⟨(Nat.le_of_ble_eq_true rfl), (Nat.le_of_ble_eq_true rfl)⟩ ⟨by omega, by omega⟩ (fun v k2 hp_ => ?_) (fun _ _ hx => hx.elim)
  obtain ⟨q, tp, rfl, q0, t0, W2, E2⟩ := hp_
  refine k_iload_n C dX1_at_28 rfl ?_
  refine kx_S C rfl ms_X1_361 dX1_at_29 ((c_atNow hin3 (by omega) W2 r1.1 r1.2 sl)) rfl rfl (Nat.le_of_ble_eq_true rfl) ⟨(Nat.le_of_ble_eq_true rfl), (Nat.le_of_ble_eq_true rfl)⟩ ⟨by omega, by omega⟩ (fun v k3 hp_ => ?_) (fun _ _ hx => hx.elim)
  obtain ⟨rfl, rfl⟩ := hp_
  exact k_iret C E dX1_at_32 ⟨by omega, by omega⟩ ⟨by rw [if_pos rfl, if_pos ⟨hin2, hin3⟩], rfl, E2⟩
def symK (σ : Sg) (m s p : Int) : Nat := if mchOk σ m then (if (0 ≤ s ∧ s ≤ 500) ∧ (-501 ≤ p ∧ p ≤ 501) then 0 else 2) else 1
theorem c_symbolX {w : Wd} {h : Hp} {x : Nat} {X : XL} {σ : Sg} {m s p : Int} (H : isX w h x X σ) (hσ : SgOk σ) (hm : i32 m) (hs : i32 s) (hw : i32 p) : Ct w yX1_symbol (ws_ yX1_symbol cX1_symbol 5 (some FieldType.int)) 10 242 5 1027 [.ref x, jI m, jI s, jI p] h (fun v h' => symK σ m s p = 0 ∧ v = some (jI ((runN (σ.ms m.toNat).1 s.toNat c0).tp p)) ∧ Ext h h') (fun E h' => exOf [sIOB, sIAE] (symK σ m s p) E ∧ Ext h h') := by
  have hX := H.1
  unfold i32 at hw hs
  have hm' := hm
  unfold symK mchOk
  refine Ct.of (by decide) [some (.ref x), some (jI m), some (jI s), some (jI p), none] rfl (Nat.le_of_ble_eq_true rfl) (fun K C E N0 => ?_)
  refine k_aload_n C dX1_symbol_0 rfl ?_
  refine k_iload_n C dX1_symbol_1 rfl ?_
  refine kx_V C rfl mv_X1_162 dX1_symbol_2 ((c_machineAt H hσ hm')) (by assumption) rfl rfl (Nat.le_of_ble_eq_true rfl) ⟨(Nat.le_of_ble_eq_true rfl), (Nat.le_of_ble_eq_true rfl)⟩ (by omega) (fun v kk hp_ => ?_) (fun E1 h1 hx => x_pass C E N0 (by omega) ⟨by rw [decide_eq_false hx.1]; rw [hx.2.1]; first | exact ex1 | exact ex2 | exact ex3, hx.2.2⟩)
  obtain ⟨hin, rfl, rfl⟩ := hp_
  rw [decide_eq_true hin] at E
  have M := H.2.2.2.2.1 m.toNat (by omega)
  have hok := hσ.2.2.1 m.toNat (by omega)
  refine k_astore C dX1_symbol_5 (Nat.le_of_ble_eq_true rfl) rfl ?_
  refine k_iload_n C dX1_symbol_7 rfl ?_
  refine k_iconst C dX1_symbol_8 ?_
  refine k_sipush C dX1_symbol_9 (by decide) ?_
  refine kx_S C rfl ms_X1_170 dX1_symbol_12 ((c_mustBeIn (by omega))) rfl rfl (Nat.le_of_ble_eq_true rfl) ⟨(Nat.le_of_ble_eq_true rfl), (Nat.le_of_ble_eq_true rfl)⟩ (by omega) (fun v kk hp_ => ?_) (fun E1 h1 hx => x_pass C E N0 (by omega) ⟨by rw [if_pos rfl, if_neg (fun z => hx.1 z.1)]; rw [hx.2.1]; first | exact ex1 | exact ex2 | exact ex3, hx.2.2⟩)
  obtain ⟨hin2, rfl, rfl⟩ := hp_
  refine k_iload_n C dX1_symbol_15 rfl ?_
  refine k_sipush C dX1_symbol_16 (by decide) ?_
  refine k_sipush C dX1_symbol_19 (by decide) ?_
  refine kx_S C rfl ms_X1_170 dX1_symbol_22 ((c_mustBeIn (by omega))) rfl rfl (Nat.le_of_ble_eq_true rfl) ⟨(Nat.le_of_ble_eq_true rfl), (Nat.le_of_ble_eq_true rfl)⟩ (by omega) (fun v kk hp_ => ?_) (fun E1 h1 hx => x_pass C E N0 (by omega) ⟨by rw [if_pos rfl, if_neg (fun z => hx.1 z.2)]; rw [hx.2.1]; first | exact ex1 | exact ex2 | exact ex3, hx.2.2⟩)
  obtain ⟨hin3, rfl, rfl⟩ := hp_
  have r1 := runN_c0 hok.1 s.toNat
  obtain ⟨S, hS⟩ : ∃ S : Nat, s = (S : Int) := ⟨s.toNat, by omega⟩
  subst hS
  rw [show ((S : Nat) : Int).toNat = S from rfl] at *
  refine k_aload C dX1_symbol_25 rfl ?_
  refine k_iload_n C dX1_symbol_27 rfl ?_
  refine kx_S C rfl ms_X1_222 dX1_symbol_28 ((c_walked (R := S) M hok (by omega))) rfl rfl (Nat.le_of_ble_eq_true rfl) ⟨(Nat.le_of_ble_eq_true rfl), (Nat.le_of_ble_eq_true rfl)⟩ ⟨by omega, by omega⟩ (fun v k2 hp_ => ?_) (fun _ _ hx => hx.elim)
  obtain ⟨q, tp, rfl, q0, t0, W2, E2⟩ := hp_
  have W21 := W2.1
  refine k_iload_n C dX1_symbol_31 rfl ?_
  refine kx_V C rfl mv_X1_237 dX1_symbol_32 ((c_wkSymbol (by omega) W2 r1.1 r1.2 (by omega))) (by assumption) rfl rfl (Nat.le_of_ble_eq_true rfl) ⟨(Nat.le_of_ble_eq_true rfl), (Nat.le_of_ble_eq_true rfl)⟩ ⟨by omega, by omega⟩ (fun v k3 hp_ => ?_) (fun _ _ hx => hx.elim)
  obtain ⟨rfl, rfl⟩ := hp_
  exact k_iret C E dX1_symbol_35 ⟨by omega, by omega⟩ ⟨by rw [if_pos rfl, if_pos ⟨hin2, hin3⟩], rfl, E2⟩
