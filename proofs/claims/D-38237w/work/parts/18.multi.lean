/-! ===== two arrays of booleans in an array; xor with -1, and of what is negative ===== -/
set_option maxRecDepth 100000
theorem oi_not {n : Nat} (h : n < 2 ^ 32) : Int32.ofInt (n : Int) ^^^ Int32.ofInt (-1) = Int32.ofInt ((2 ^ 32 - (n + 1) : Nat) : Int) := by
  apply oi_bv
  rw [Int32.toBitVec_xor, ← nI_oi, show (Int32.ofInt (-1)).toBitVec = BitVec.allOnes 32 from by decide, BitVec.xor_allOnes, BitVec.toNat_not, pk_tn h]
  omega
theorem oi_andB {a b : Nat} (ha : a < 2 ^ 32) (hb : b < 2 ^ 32) : Int32.ofInt (a : Int) &&& Int32.ofInt (b : Int) = Int32.ofInt ((a &&& b : Nat) : Int) := by
  apply oi_bv
  rw [← nI_oi, ← nI_oi, Int32.toBitVec_and, BitVec.toNat_and, pk_tn ha, pk_tn hb]
section MULTI
variable {w : Wd} {K : KT} {own nm : String} {cc : ByteArray} {nL : Nat} {ret : Option FieldType} {fr lo mc ms : Nat} {h : Hp} {n k pc : Nat} {L : List (Option Value)} {st : List Value}
theorem k_ixorm {a : Nat} (C : Cx w K own cc nL ret nm fr lo mc ms) (hd : decode cc pc = .ok (.ixor, 1)) (ha : a < 2 ^ 32) (kk : Wk w K h n k (pc + 1) L (jI ((2 ^ 32 - (a + 1) : Nat) : Int) :: st)) : Wk w K h n k pc L (jI (-1) :: jI (a : Int) :: st) := by
  intro H locs ls R hl hL
  refine lv_ixor C.1 C.2.1 hd ?_
  rw [oi_not ha]
  exact kk H locs ls R hl hL
theorem k_iandB {a b : Nat} (C : Cx w K own cc nL ret nm fr lo mc ms) (hd : decode cc pc = .ok (.iand, 1)) (ha : a < 2 ^ 32) (hb : b < 2 ^ 32) (kk : Wk w K h n k (pc + 1) L (jI ((a &&& b : Nat) : Int) :: st)) : Wk w K h n k pc L (jI (b : Int) :: jI (a : Int) :: st) := by
  intro H locs ls R hl hL
  refine lv_iand C.1 C.2.1 hd ?_
  rw [oi_andB ha hb]
  exact kk H locs ls R hl hL
/-- an array of two arrays of booleans -/
theorem k_mulZ {z : Int} {idx : Nat} (C : Cx w K own cc nL ret nm fr lo mc ms) (q : Cond.classLink own idx "[[Z" ∈ lw_all) (qz : Cond.arrayClass .boolean ∈ lw_all) (hd : decode cc pc = .ok (.multianewarray idx 2, 4)) (hz : 0 ≤ z ∧ z < 1000) (hm : n + 3 ≤ mc ∧ k + 2 + 2 * z.toNat ≤ ms)
    (kk : ∀ (a b c : Nat) (h' : Hp), h.2 a = none → h.2 b = none → h.2 c = none → (a ≠ b ∧ a ≠ c ∧ b ≠ c) → h'.2 a = some (aR 6 2 (fun j => if j = 0 then some b else some c)) → h'.2 b = some (aI 1 z.toNat (fun _ => 0)) → h'.2 c = some (aI 1 z.toNat (fun _ => 0)) → Ext h h' → Wk w K h' (n + 3) (k + 2 + 2 * z.toNat) (pc + 4) L (.ref a :: st)) : Wk w K h n k pc L (jI z :: jI 2 :: st) := by
  intro H locs ls R hl hL T hT X
  have hc := oi_clamp hz.1 (by omega : z < 2147483648)
  have hc2 : (Int32.ofInt 2).toNatClampNeg = 2 := by decide
  have e0 : (0 : Int32) = Int32.ofInt 0 := rfl
  obtain ⟨vm₁, cA, comp, hW, hfA, hfC, hO, hI, X1, step⟩ := X.multianewarray2F C.1 (own := own) (index := idx) (ty := .boolean) C.ownC (C.hts _ q) (over_moved (Vm.Alike.refl _) C.wok.2.2.2.2.2.2.2.2.2.2.1) (C.hts _ qz) (g := F0 K.m pc ls (.int (Int32.ofInt z) :: .int (Int32.ofInt 2) :: st)) rfl (by rw [C.2.1]; exact hd) (n := Int32.ofInt 2) (k := Int32.ofInt z) (rest := st) rfl (by decide)
    (by rw [e0, oi_lt ⟨by omega, by omega, by omega, by omega⟩]; omega) (by rw [hc2]; decide) (by rw [hc]; show z.toNat * 1 ≤ _; omega) (by rw [hc]; omega) rfl rfl (by rw [C.room, hc2]; exact hm.1) (by rw [C.room, hc2, hc]; show k + (2 + 2 * z.toNat) ≤ ms; omega)
  rw [hc2, hc] at X1 step
  obtain ⟨f1, f2, f3, f4⟩ := Jvm.Free.Multi.fill_facts (T.setVm vm₁) cA comp 2 z.toNat (defaultValue .boolean) 2
  have fo := fun (a : Addr) (ha : a < T.heap.size) => Jvm.Free.Multi.fill_old (T.setVm vm₁) cA comp 2 z.toNat (defaultValue .boolean) (a := a) ha 2
  have fi := fun (j : Nat) (hj : j < 2) => Jvm.Free.Multi.fill_inner (T.setVm vm₁) cA comp 2 z.toNat (defaultValue .boolean) 2 j hj
  obtain ⟨o1, o2, o3⟩ := Jvm.Free.Multi.outerC_facts cA 2 T.heap.size 2
  have os := fun (j : Nat) (hj : j < 2) => Jvm.Free.Multi.outerC_slot cA 2 T.heap.size 2 j hj
  have om : (Jvm.Free.Multi.outerC cA 2 T.heap.size 2).monitor = {} := rfl
  have hr : T.heap.size = h.1 := by rw [hT]; exact R.1.symm
  have hsz : (T.setVm vm₁).heap.size = h.1 := hr
  obtain ⟨kA6, comp6, -, -, g3, -⟩ := C.wok.2.1 6 _ rfl
  have hcA : cA = w.aC 6 := Option.some.inj (hfA.symm.trans g3)
  obtain ⟨kA1, comp1, -, -, g31, -⟩ := C.wok.2.1 1 _ rfl
  have hcC : comp = w.aC 1 := Option.some.inj (hfC.symm.trans g31)
  generalize hO2 : Jvm.Free.Multi.outerC cA 2 T.heap.size 2 = O at *
  generalize hF : Jvm.Free.Multi.fill (T.setVm vm₁) cA comp 2 z.toNat (defaultValue .boolean) 2 = F at *
  rw [hsz] at f1 f2 fi
  rw [hr] at fo os
  have f2' : F.heap[h.1]? = some O := by rw [← hO2, hr]; exact f2
  have i1 : F.heap[h.1 + 1 + 0]? = some (Jvm.Free.Multi.innerC comp z.toNat (defaultValue .boolean)) := fi 0 (by decide)
  have i2 : F.heap[h.1 + 1 + 1]? = some (Jvm.Free.Multi.innerC comp z.toNat (defaultValue .boolean)) := fi 1 (by decide)
  have eF : F.heap = ((H.push O).push (Jvm.Free.Multi.innerC comp z.toNat (defaultValue .boolean))).push (Jvm.Free.Multi.innerC comp z.toNat (defaultValue .boolean)) := by
    apply Array.ext_getElem?
    intro q
    have hH : H.size = h.1 := R.1.symm
    by_cases q0 : q < h.1
    · rw [Array.getElem?_push, if_neg (by simp; omega), Array.getElem?_push, if_neg (by simp; omega), Array.getElem?_push, if_neg (by omega)]
      rw [fo q q0]
      show T.heap[q]? = _
      rw [hT]
    · by_cases q1 : q = h.1
      · subst q1
        rw [f2', Array.getElem?_push, if_neg (by simp; omega), Array.getElem?_push, if_neg (by simp; omega), Array.getElem?_push, if_pos hH.symm]
      · by_cases q2 : q = h.1 + 1
        · subst q2
          rw [show h.1 + 1 = h.1 + 1 + 0 from rfl, i1, Array.getElem?_push, if_neg (by simp; omega), Array.getElem?_push, if_pos (by simp; omega)]
        · by_cases q3 : q = h.1 + 2
          · subst q3
            rw [show h.1 + 2 = h.1 + 1 + 1 from rfl, i2, Array.getElem?_push, if_pos (by simp; omega)]
          · rw [Array.getElem?_eq_none (by rw [f1]; omega), Array.getElem?_eq_none (by simp; omega)]
  have R1 : Rel w (hN h (aR 6 2 (fun j => if j = 0 then some (h.1 + 1) else some (h.1 + 2)))) (H.push O) := R.new (cell := O) (by rw [R.1]; simp) (by rw [R.1]; simp) (fun q hq => by rw [R.1] at hq; rw [Array.getElem?_push, if_neg (Nat.ne_of_lt hq)]) ⟨by rw [o1]; exact hcA, o2, o3, fun j hj => by
    have hj' : j < 2 := hj
    rw [os j hj', if_pos hj']
    obtain rfl | rfl : j = 0 ∨ j = 1 := by omega
    · rfl
    · rfl⟩ om
  have cI : cAt w (aI 1 z.toNat (fun _ => 0)) (Jvm.Free.Multi.innerC comp z.toNat (defaultValue .boolean)) := ⟨hcC, rfl, by simp [Jvm.Free.Multi.innerC], fun j hj => by
    have hj' : j < z.toNat := hj
    simp [Jvm.Free.Multi.innerC, hj']
    rfl⟩
  have R2 : Rel w (hN (hN h (aR 6 2 (fun j => if j = 0 then some (h.1 + 1) else some (h.1 + 2)))) (aI 1 z.toNat (fun _ => 0))) ((H.push O).push (Jvm.Free.Multi.innerC comp z.toNat (defaultValue .boolean))) := R1.new (cell := Jvm.Free.Multi.innerC comp z.toNat (defaultValue .boolean)) (by rw [R1.1, Array.getElem?_push_size]) (by rw [R1.1]; simp) (fun q hq => by rw [R1.1] at hq; rw [Array.getElem?_push, if_neg (Nat.ne_of_lt hq)]) cI rfl
  have R3 := R2.new (H' := ((H.push O).push (Jvm.Free.Multi.innerC comp z.toNat (defaultValue .boolean))).push (Jvm.Free.Multi.innerC comp z.toNat (defaultValue .boolean))) (cell := Jvm.Free.Multi.innerC comp z.toNat (defaultValue .boolean)) (c := aI 1 z.toNat (fun _ => 0)) (by rw [R2.1, Array.getElem?_push_size]) (by rw [R2.1]; simp) (fun q hq => by rw [R2.1] at hq; rw [Array.getElem?_push, if_neg (Nat.ne_of_lt hq)]) cI rfl
  rw [← eF] at R3
  have n0 := (new_hN (c := aR 6 2 (fun j => if j = 0 then some (h.1 + 1) else some (h.1 + 2))) R)
  have n1 := (new_hN (c := aI 1 z.toNat (fun _ => 0)) R1)
  have n2 := (new_hN (c := aI 1 z.toNat (fun _ => 0)) R2)
  have E := n0.2.2.1.trans (n1.2.2.1.trans n2.2.2.1)
  have old : ∀ x, h.1 ≤ x → h.2 x = none := fun x hx => by
    cases e : h.2 x with
    | none => rfl
    | some d => have := R.lt e; omega
  obtain ⟨t, b1, b2⟩ := kk h.1 (h.1 + 1) (h.1 + 2) _ (old _ (Nat.le_refl _)) (old _ (by omega)) (old _ (by omega)) ⟨by omega, by omega, by omega⟩ (n2.2.2.1.2 _ _ (n1.2.2.1.2 _ _ n0.2.1)) (n2.2.2.1.2 _ _ n1.2.1) n2.2.1 E _ locs ls R3 (hl.new (by rw [f1, R.1]; omega)) hL F rfl X1
  refine ⟨t, step t ?_, b2⟩
  rw [hr]
  exact b1
end MULTI
