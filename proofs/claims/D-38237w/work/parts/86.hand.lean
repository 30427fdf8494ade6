/-! ===== calls of methods with handlers ===== -/
set_option maxRecDepth 100000
section HANDRUN
variable {w : Wd} {K : KT} {own nm : String} {cc : ByteArray} {nL : Nat} {ret : Option FieldType} {fr lo mc ms : Nat} {h : Hp} {n k pc : Nat} {L : List (Option Value)} {st rest : List Value}
variable {Post : Option Value → Hp → Prop} {PostX : String → Hp → Prop} {mc' ms' : Nat}
variable {y : MethodName} {b : ByteArray} {nLy : Nat} {ry : Option FieldType} {hh : List (Nat × Nat × Nat × Nat)} {idx nA fr' lo' : Nat} {A : List Value}
def McVW (own : String) (idx : Nat) (ci : Nat) (y : MethodName) (b : ByteArray) (nLy : Nat) (ry : Option FieldType) (hh : List (Nat × Nat × Nat × Nat)) (nA : Nat) : Prop := ∃ r : vw_C, clAll[ci]? = some r ∧ y.cls = r.1 ∧ Cond.methodLink own idx y ∈ lw_all ∧ Cond.instanceMethod y ∈ lw_all ∧ Cond.selects r.1 y y ∈ lw_all ∧ Cond.initialized r.1 ∈ lw_all ∧ Cond.codeWith y b nLy ry hh ∈ lw_all ∧ MHs y nA
def McSW (own : String) (idx : Nat) (y : MethodName) (b : ByteArray) (nLy : Nat) (ry : Option FieldType) (hh : List (Nat × Nat × Nat × Nat)) (nA : Nat) : Prop := Cond.methodLink own idx y ∈ lw_all ∧ Cond.static y ∈ lw_all ∧ Cond.initialized y.cls ∈ lw_all ∧ Cond.codeWith y b nLy ry hh ∈ lw_all ∧ MHs y nA
theorem kx_VW {ci bb : Nat} {fs : List Value} (C : Cx w K own cc nL ret nm fr lo mc ms) (hL0 : L.length = nL) (M : McVW own idx ci y b nLy ry hh nA) (hd : decode cc pc = .ok (.invokevirtual idx, 3)) (hM : Ct w y (wsW_ y b nLy ry hh) fr' lo' mc' ms' (.ref bb :: A) h Post PostX) (hh0 : h.2 bb = some (.inl (ci, fs))) (hA : A.length = nA) (hs : st = psh (.ref bb :: A) rest) (hcat : (rest.map fun v => v.category).sum ≤ 8) (hR : fr' + 1 ≤ fr ∧ 8 + (nLy + 11) + lo' ≤ lo) (hm : n + mc' ≤ mc ∧ k + ms' ≤ ms)
    (kk : ∀ (v : Option Value) (h' : Hp), Post v h' → Wk w K h' (n + mc') (k + ms') (pc + 3) L (v.toList ++ rest)) (kx : ∀ (E : String) (h' : Hp), PostX E h' → Wx w K h' (n + mc') (k + ms') pc L rest E) : Wk w K h n k pc L st := by
  obtain ⟨r, hr, hyc, q1, q2, q3, q4, q5, hy⟩ := M
  subst hs
  rw [psh, psh_eq]
  refine Wk.run3 (A' := (.ref bb :: A).toArray) (fun H locs ls R hl hL => ?_) kk kx
  exact vx_runVX (C := r.1) (fix C) (hM K.l C.2.2.2.2.2.2.2.2.1) (vx_cwVW nA C.hts (lw_VW q1 q2 q3 q4 q5) rfl rfl rfl ⟨hyc, hy⟩ (by rw [C.room]; exact hR)) (preV C R hh0 hr) rfl hA (by rw [← hL0]; exact hL.size) rfl (by simpa using hcat) hd (by rw [C.room]; exact hm)
theorem kx_SW (C : Cx w K own cc nL ret nm fr lo mc ms) (hL0 : L.length = nL) (M : McSW own idx y b nLy ry hh nA) (hd : decode cc pc = .ok (.invokestatic idx, 3)) (hM : Ct w y (wsW_ y b nLy ry hh) fr' lo' mc' ms' A h Post PostX) (hA : A.length = nA) (hs : st = psh A rest) (hcat : (rest.map fun v => v.category).sum ≤ 8) (hR : fr' + 1 ≤ fr ∧ 8 + (nLy + 11) + lo' ≤ lo) (hm : n + mc' ≤ mc ∧ k + ms' ≤ ms)
    (kk : ∀ (v : Option Value) (h' : Hp), Post v h' → Wk w K h' (n + mc') (k + ms') (pc + 3) L (v.toList ++ rest)) (kx : ∀ (E : String) (h' : Hp), PostX E h' → Wx w K h' (n + mc') (k + ms') pc L rest E) : Wk w K h n k pc L st := by
  obtain ⟨q1, q2, q3, q4, hy⟩ := M
  subst hs
  rw [psh_eq]
  refine Wk.run3 (A' := A.toArray) (fun H locs ls R hl hL => ?_) kk kx
  exact vx_runSX (fix C) (hM K.l C.2.2.2.2.2.2.2.2.1) (vx_cwSW nA C.hts (lw_SW q1 q2 q3 q4) rfl rfl rfl hy (by rw [C.room]; exact hR)) (preS C R) rfl hA (by rw [← hL0]; exact hL.size) rfl (by simpa using hcat) hd (by rw [C.room]; exact hm)
end HANDRUN
theorem mv_X1_209 : McVW RX1 209 0 yX1_takeBack cX1_takeBack 5 (some FieldType.boolean) [(12, 45, 48, 0), (48, 52, 48, 0)] 1 := ⟨_, rfl, rfl, q847, q849, qs9, q25, q850, by decide +kernel⟩
theorem mv_X1_283 : McVW RX1 283 0 yX1_enter cX1_enter 4 none [(11, 33, 36, 0), (36, 39, 36, 0), (42, 49, 52, 249)] 1 := ⟨_, rfl, rfl, q1020, q1022, qs13, q25, q1023, by decide +kernel⟩
