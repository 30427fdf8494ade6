/-! ===== contracts: how they are made, how they are used ===== -/
set_option maxRecDepth 100000
theorem ClsOk.moved {w : Wd} {s U : State} (hvm : s.vm.Alike U.vm) (h : ClsOk w s) : ClsOk w U := by
  intro ci r hr
  obtain ⟨h1, h2, h3⟩ := h ci r hr
  refine ⟨classAt_moved hvm h1, fun k hk => ?_, h3⟩
  obtain ⟨cf, kf, fi, fd, hi, hs⟩ := h2 k hk
  obtain ⟨kf', hi', -⟩ := State.fieldFound?_setVm (s := s) hvm hi
  exact ⟨cf, kf', fi, fd, by simpa only [State.fieldFound?, State.vm_setVm] using hi', hs⟩
theorem ArrOk.moved {w : Wd} {s U : State} (hvm : s.vm.Alike U.vm) (h : ArrOk w s) : ArrOk w U := by
  intro kd ty ht
  obtain ⟨kA, comp, h1, h2, h3, h4, h5⟩ := h kd ty ht
  obtain ⟨k', hk', he⟩ := hvm.2.2 _ _ h1
  exact ⟨k', comp, hk', by rw [he]; exact h2, by rw [hvm.findClass]; exact h3, fun C e => by rw [hvm.findClass]; exact h4 C e, fun t e => by rw [hvm.findClass]; exact h5 t e⟩
theorem nb_moved {c : Cond} {s U : State} (hW : s.WarmedH U.vm) (hb : nbWord c = true) (h : va_Nw c s) : va_Nw c U := by
  cases c <;> first
    | exact va_Nw.warmF hW h
    | exact va_Nw.warmM hW h
    | exact va_Nw.warmD hW h
    | exact va_Nw.warmC hW h
    | exact va_tabs rfl (rfl : (s.setVm U.vm).vm = U.vm) (by rw [Cond.publicMethod_setVm hW.alike]; exact h)
    | exact va_tabs rfl (rfl : (s.setVm U.vm).vm = U.vm) (by rw [Cond.unhidden_setVm hW.alike]; exact h)
    | exact absurd hb (by decide)
    | cases hb
theorem fw_plain : ∀ f ∈ fwAll, f.2.1.cls ≠ "java/lang/invoke/MethodHandle" ∧ f.2.1.cls ≠ "java/lang/invoke/VarHandle" := by decide +kernel
theorem dfOk.warm {s U : State} (hW : s.WarmedH U.vm) (h : dfOk s) : dfOk U := by
  refine ⟨fun d hd => ?_, fun c hc => (And.right h c hc).moved hW.alike⟩
  obtain ⟨h1, h2, h3⟩ := And.left h d hd
  refine ⟨word_at hW (Or.inl (by first | rfl | simp [Cond.onTables, Cond.keeps, Cond.steady])) h1, word_at hW (Or.inl (by first | rfl | simp [Cond.onTables, Cond.keeps, Cond.steady])) h2, ?_⟩
  have h4 : (Cond.landsInDefault d.2 ⟨d.2, "count", "()I"⟩ ⟨"Haltingale$Counted", "count", "()I"⟩).before #[] (s.setVm U.vm) = true := (Cond.landsInDefault_setVm hW.alike (State.methodFound?_setVm hW.alike _ _ _)).trans h3
  exact h4
theorem Wok.warm {w : Wd} {s U : State} (hW : s.WarmedH U.vm) (h : Wok w s) : Wok w U := by
  obtain ⟨h1, h2, h3, h4, h5, h6, h7, h8, h9, h10, h11, h12, h13⟩ := h
  have hvm := hW.alike
  exact ⟨h1.moved hvm, h2.moved hvm, fun c hc hb => nb_moved hW hb (h3 c hc hb), fun f hf => va_Fw.moved (fw_plain f hf) hvm (h4 f hf), fun f hf => va_Z.moved hvm (h5 f hf), va_Z.moved hvm h6, vx_Zq.moved hvm h7, vx_Zq.moved hvm h8, va_AO.moved hvm h9, over_moved hvm h10, over_moved hvm h11, h12.moved hvm, h13.warm hW⟩
/-- the arguments in their places -/
def lA : List Value → List (Option Value)
  | [] => []
  | v :: vs => if v.category = 2 then some v :: none :: lA vs else some v :: lA vs
def lArgs (A : List Value) (nL : Nat) : List (Option Value) := lA A ++ List.replicate (nL - (lA A).length) none
theorem lA_len : ∀ A : List Value, (lA A).length = (lg_sl A).length
  | [] => rfl
  | v :: vs => by
    have ih := lA_len vs
    unfold lA lg_sl
    by_cases h : v.category = 2
    · simp [h, ih, lg_sl]
    · simp [h, ih, lg_sl]
theorem lA_mem : ∀ (A : List Value) (o i : Nat) (v : Value), (lA A)[i]? = some (some v) → (o + i, v) ∈ lv_args o A
  | [], _, _, _, h => by simp [lA] at h
  | u :: us, o, i, v, h => by
    unfold lA at h
    unfold lv_args
    by_cases hc : u.category = 2
    · rw [if_pos hc] at h
      rw [if_pos hc]
      match i, h with
      | 0, h =>
        have e : u = v := by simpa using h
        subst e
        exact List.mem_cons_self
      | 1, h => simp at h
      | i + 2, h =>
        have := lA_mem us (o + 2) i v (by simpa using h)
        rw [show o + (i + 2) = o + 2 + i by omega]
        exact List.mem_cons_of_mem _ this
    · rw [if_neg hc] at h
      rw [if_neg hc]
      match i, h with
      | 0, h =>
        have e : u = v := by simpa using h
        subst e
        exact List.mem_cons_self
      | i + 1, h =>
        have := lA_mem us (o + 1) i v (by simpa using h)
        rw [show o + (i + 1) = o + 1 + i by omega]
        exact List.mem_cons_of_mem _ this
theorem lHas.entry (A : List Value) {nL : Nat} (h : (lA A).length ≤ nL) : lHas ((lg_sl A ++ List.replicate (nL - (lg_sl A).length) Slot.unset).toArray) (lArgs A nL) := by
  have hlen : (lArgs A nL).length = nL := by
    unfold lArgs
    simp
    omega
  refine ⟨lv_args 0 A, ?_, fun i v e => ?_⟩
  · rw [hlen]
    exact lv_entry A (by rw [← lA_len]; exact h)
  · unfold lArgs at e
    by_cases hi : i < (lA A).length
    · rw [List.getElem?_append_left hi] at e
      have := lA_mem A 0 i v e
      rwa [Nat.zero_add] at this
    · rw [List.getElem?_append_right (by omega)] at e
      rw [List.getElem?_replicate] at e
      split at e <;> simp at e
section CT
variable {w : Wd} {y : MethodName} {cc : ByteArray} {nL : Nat} {ret : Option FieldType} {fr lo mc ms : Nat} {h : Hp} {A : List Value} {Post : Option Value → Hp → Prop} {PostX : String → Hp → Prop}
/-- a contract by a walk of its body -/
theorem Ct.of (hy : plainName y.cls = true) (L : List (Option Value)) (hL : lArgs A nL = L) (hn : (lA A).length ≤ nL)
    (body : ∀ K : KT, Cx w K y.cls cc nL ret y.name fr lo mc ms → En w K Post PostX mc ms → (∀ x ∈ K.c.exceptionTable.toList, False) → Wk w K h 0 0 0 L []) : Ct w y (ws_ y cc nL ret) fr lo mc ms A h Post PostX := by
  intro l hl
  refine vx_ofW (cc := cc) (maxL := nL) (ret := ret) hy rfl ?_
  intro p e s m args below meth c s₁ B hml htab hv
  obtain ⟨rfl, hR, hW⟩ := hv
  have hts := atoms_spec (ws := ws_ y cc nL ret) B.pre
  have hts : ∀ w ∈ lw_all, w.before _ s = true := fun w h => hts w (List.mem_cons_of_mem _ h)
  have hb := body (p, l, e, { frames := fr, cells := mc, slots := ms, locals := lo }, s, m, A.toArray, below, meth, c, vx_MQ below (Qp w Post) (Xp w PostX) A.toArray s mc ms (Fr w))
    ⟨B.exec, B.bytes, hml, findClass_of_methodNamed B.named, hts, B.returns, B.notSynchronized, rfl, hl, hW, hR.2.2.1.1, hR.2.1, (name_of_methodNamed B.named B.method).1⟩ rfl htab
  subst hL
  rw [lg_entry_eq]
  exact hb s.heap [] _ hR ⟨Nat.le_refl _, fun q hq => absurd hq List.not_mem_nil⟩ (lHas.entry A hn)
/-- the same for a method with handlers -/
theorem Ct.ofH {hh : List (Nat × Nat × Nat × Nat)} (hy : plainName y.cls = true) (L : List (Option Value)) (hL : lArgs A nL = L) (hn : (lA A).length ≤ nL)
    (body : ∀ K : KT, Cx w K y.cls cc nL ret y.name fr lo mc ms → En w K Post PostX mc ms → K.c.exceptionTable.toList = tableOf hh → Wk w K h 0 0 0 L []) : Ct w y (wsW_ y cc nL ret hh) fr lo mc ms A h Post PostX := by
  intro l hl
  refine vx_ofWH (cc := cc) (maxL := nL) (ret := ret) (hh := hh) hy rfl ?_
  intro p e s m args below meth c s₁ B hml hv
  obtain ⟨rfl, hR, hW⟩ := hv
  have hts0 := atoms_spec (ws := wsW_ y cc nL ret hh) B.pre
  have hts : ∀ w ∈ lw_all, w.before _ s = true := fun w h => hts0 w (List.mem_cons_of_mem _ h)
  have htab := vx_table (x := y) B (hts0 _ List.mem_cons_self)
  have hb := body (p, l, e, { frames := fr, cells := mc, slots := ms, locals := lo }, s, m, A.toArray, below, meth, c, vx_MQ below (Qp w Post) (Xp w PostX) A.toArray s mc ms (Fr w))
    ⟨B.exec, B.bytes, hml, findClass_of_methodNamed B.named, hts, B.returns, B.notSynchronized, rfl, hl, hW, hR.2.2.1.1, hR.2.1, (name_of_methodNamed B.named B.method).1⟩ rfl htab
  subst hL
  rw [lg_entry_eq]
  exact hb s.heap [] _ hR ⟨Nat.le_refl _, fun q hq => absurd hq List.not_mem_nil⟩ (lHas.entry A hn)
end CT
/-! ### calls -/
section RUN
variable {w : Wd} {K : KT} {own nm : String} {cc : ByteArray} {nL : Nat} {ret : Option FieldType} {fr lo mc ms : Nat} {h : Hp} {n k pc : Nat} {L : List (Option Value)} {st rest : List Value}
variable {Post : Option Value → Hp → Prop} {PostX : String → Hp → Prop} {mc' ms' : Nat}
theorem Lk.call {H H' : Heap} {locs L' : List Loc} {T' : State} {cells slots : Nat} (hl : Lk w K H locs) (X : Stand K.p K.l K.e K.R K.s K.m K.args K.below K.meth K.c T' (locs ++ L') cells slots) (hL : ∀ q ∈ L', Fr w q.base) : Lk w K T'.heap (locs ++ L') :=
  ⟨X.same.2.1, fun q hq => (List.mem_append.mp hq).elim (hl.2 q) (hL q)⟩
theorem Wk.run3 {A' : Array Value} (hr : ∀ (H : Heap) (locs : List Loc) (ls : Array Slot), Rel w h H → Lk w K H locs → lHas ls L → vx_Run K.p K.l K.e K.R K.s K.m K.args K.below K.meth K.c H locs n k mc' ms' (F0 K.m pc ls st) rest (Qp w Post A') (Xp w PostX) (Fr w))
    (kk : ∀ (v : Option Value) (h' : Hp), Post v h' → Wk w K h' (n + mc') (k + ms') (pc + 3) L (v.toList ++ rest)) (kx : ∀ (E : String) (h' : Hp), PostX E h' → Wx w K h' (n + mc') (k + ms') pc L rest E) : Wk w K h n k pc L st := by
  intro H locs ls R hl hL T hT X
  rcases hr H locs ls R hl hL T hT X with ⟨v, st₀, t, T', L', h0, X', hLf, e1, e2, ⟨v', h', hv, hR, hp⟩, sg⟩ | ⟨q, st₀, t, T', L', E, ce, h0, X', hLf, e1, e2, ⟨h', hR, hp⟩, hce, hcv, hcl, sg⟩
  · cases hv
    obtain ⟨t2, a1, b1⟩ := kk v h' hp T'.heap (locs ++ L') ls (by rw [e1]; exact hR) (hl.call (H' := H) X' hLf) hL T' rfl X'
    exact ⟨t2, sg t2 a1, b1⟩
  · obtain ⟨t2, a1, b1⟩ := kx E h' hp T'.heap (locs ++ L') ls q ce (by rw [e1]; exact hR) (hl.call (H' := H) X' hLf) hL (by rw [e1]; exact hce) hcv hcl T' rfl X'
    exact ⟨t2, sg.trans a1, b1⟩
theorem Wk.run5 {A' : Array Value} (hr : ∀ (H : Heap) (locs : List Loc) (ls : Array Slot), Rel w h H → Lk w K H locs → lHas ls L → vx_Run5 K.p K.l K.e K.R K.s K.m K.args K.below K.meth K.c H locs n k mc' ms' (F0 K.m pc ls st) rest (Qp w Post A') (Xp w PostX) (Fr w))
    (kk : ∀ (v : Option Value) (h' : Hp), Post v h' → Wk w K h' (n + mc') (k + ms') (pc + 5) L (v.toList ++ rest)) (kx : ∀ (E : String) (h' : Hp), PostX E h' → Wx w K h' (n + mc') (k + ms') pc L rest E) : Wk w K h n k pc L st := by
  intro H locs ls R hl hL T hT X
  rcases hr H locs ls R hl hL T hT X with ⟨v, st₀, t, T', L', h0, X', hLf, e1, e2, ⟨v', h', hv, hR, hp⟩, sg⟩ | ⟨q, st₀, t, T', L', E, ce, h0, X', hLf, e1, e2, ⟨h', hR, hp⟩, hce, hcv, hcl, sg⟩
  · cases hv
    obtain ⟨t2, a1, b1⟩ := kk v h' hp T'.heap (locs ++ L') ls (by rw [e1]; exact hR) (hl.call (H' := H) X' hLf) hL T' rfl X'
    exact ⟨t2, sg t2 a1, b1⟩
  · obtain ⟨t2, a1, b1⟩ := kx E h' hp T'.heap (locs ++ L') ls q ce (by rw [e1]; exact hR) (hl.call (H' := H) X' hLf) hL (by rw [e1]; exact hce) hcv hcl T' rfl X'
    exact ⟨t2, sg.trans a1, b1⟩
theorem frameBlind {A : List Value} : FrameBlind (fun v U => v = A.toArray ∧ Rel w h U.heap ∧ Wok w U) := by
  intro a U g mk ⟨h1, h2, h3⟩
  exact ⟨h1, h2, Wok.warm (U := U.calling g mk a) (State.WarmedH.refl U) h3⟩
theorem preS (C : Cx w K own cc nL ret nm fr lo mc ms) {A : List Value} {H : Heap} (R : Rel w h H) : PreS K.s H (fun v U => v = A.toArray ∧ Rel w h U.heap ∧ Wok w U) A :=
  ⟨frameBlind, fun U hU hW => ⟨rfl, by rw [hU]; exact R, Wok.warm hW C.wok⟩⟩
theorem preV (C : Cx w K own cc nL ret nm fr lo mc ms) {A : List Value} {H : Heap} {b : Nat} {ci : Nat} {fs : List Value} {r : vw_C} (R : Rel w h H) (hh : h.2 b = some (.inl (ci, fs))) (hr : clAll[ci]? = some r) : PreV K.s H r.1 b (fun v U => v = (Value.ref b :: A).toArray ∧ Rel w h U.heap ∧ Wok w U) A := by
  obtain ⟨⟨cell, q1, ⟨e1, e2, -, e3⟩, -⟩, -⟩ := R.2.2.2 b _ hh
  obtain ⟨⟨hfc, -⟩, -⟩ := C.wok.1 ci r hr
  exact ⟨frameBlind, ⟨cell, q1, by rw [e2]; rfl, by rw [e1]; exact hfc⟩, fun U hU hW => ⟨rfl, by rw [hU]; exact R, Wok.warm hW C.wok⟩⟩
theorem fix (C : Cx w K own cc nL ret nm fr lo mc ms) : CallFix K.p K.m K.c cc nL K.s K.args lw_all own := ⟨C.1, C.2.1, C.2.2.1, C.ownC, C.hts⟩
/-- the arguments on the stack -/
def psh : List Value → List Value → List Value
  | [], r => r
  | v :: A, r => psh A (v :: r)
theorem psh_eq : ∀ (A r : List Value), psh A r = A.reverse ++ r
  | [], r => rfl
  | v :: A, r => by
    rw [psh, psh_eq A (v :: r)]
    simp
variable {y : MethodName} {b : ByteArray} {nLy : Nat} {ry : Option FieldType} {idx nA fr' lo' : Nat} {A : List Value}
/-- a static call's words -/
def McS (own : String) (idx : Nat) (y : MethodName) (b : ByteArray) (nLy : Nat) (ry : Option FieldType) (nA : Nat) : Prop := Cond.methodLink own idx y ∈ lw_all ∧ Cond.static y ∈ lw_all ∧ Cond.initialized y.cls ∈ lw_all ∧ Cond.code y b nLy ry ∈ lw_all ∧ MHs y nA
/-- a nest mate's static call's -/
def McSN (own : String) (idx : Nat) (y : MethodName) (b : ByteArray) (nLy : Nat) (ry : Option FieldType) (nA : Nat) : Prop := ∃ host : String, Cond.methodLinkNest own idx y host ∈ lw_tbl ∧ Cond.static y ∈ lw_all ∧ Cond.initialized y.cls ∈ lw_all ∧ Cond.code y b nLy ry ∈ lw_all ∧ MHs y nA
/-- a virtual call's -/
def McV (own : String) (idx : Nat) (ci : Nat) (y : MethodName) (b : ByteArray) (nLy : Nat) (ry : Option FieldType) (nA : Nat) : Prop := ∃ r : vw_C, clAll[ci]? = some r ∧ y.cls = r.1 ∧ Cond.methodLink own idx y ∈ lw_all ∧ Cond.instanceMethod y ∈ lw_all ∧ Cond.selects r.1 y y ∈ lw_all ∧ Cond.initialized r.1 ∈ lw_all ∧ Cond.code y b nLy ry ∈ lw_all ∧ MHs y nA
def McVN (own : String) (idx : Nat) (ci : Nat) (y : MethodName) (b : ByteArray) (nLy : Nat) (ry : Option FieldType) (nA : Nat) : Prop := ∃ (r : vw_C) (host : String), clAll[ci]? = some r ∧ y.cls = r.1 ∧ Cond.methodLinkNest own idx y host ∈ lw_tbl ∧ Cond.instanceMethod y ∈ lw_all ∧ Cond.selects r.1 y y ∈ lw_all ∧ Cond.initialized r.1 ∈ lw_all ∧ Cond.code y b nLy ry ∈ lw_all ∧ MHs y nA
/-- a constructor's -/
def McI (own : String) (idx : Nat) (y : MethodName) (b : ByteArray) (nLy : Nat) (nA : Nat) : Prop := y.name = "<init>" ∧ Cond.methodLink own idx y ∈ lw_all ∧ Cond.instanceMethod y ∈ lw_all ∧ Cond.initialized y.cls ∈ lw_all ∧ Cond.code y b nLy none ∈ lw_all ∧ MHs y nA
def McIN (own : String) (idx : Nat) (y : MethodName) (b : ByteArray) (nLy : Nat) (nA : Nat) : Prop := ∃ host : String, y.name = "<init>" ∧ Cond.methodLinkNest own idx y host ∈ lw_tbl ∧ Cond.instanceMethod y ∈ lw_all ∧ Cond.initialized y.cls ∈ lw_all ∧ Cond.code y b nLy none ∈ lw_all ∧ MHs y nA
/-- an interface call's -/
def McF (own : String) (idx : Nat) (ci : Nat) (x y : MethodName) (b : ByteArray) (nLy : Nat) (ry : Option FieldType) (nA : Nat) : Prop := ∃ r : vw_C, clAll[ci]? = some r ∧ (r.1, x, y) ∈ fwAll ∧ Cond.methodLink own idx x ∈ lw_all ∧ Cond.selects r.1 x y ∈ lw_all ∧ Cond.instanceMethod y ∈ lw_all ∧ Cond.initialized y.cls ∈ lw_all ∧ Cond.code y b nLy ry ∈ lw_all ∧ MHs x nA
theorem kx_S (C : Cx w K own cc nL ret nm fr lo mc ms) (hL0 : L.length = nL) (M : McS own idx y b nLy ry nA) (hd : decode cc pc = .ok (.invokestatic idx, 3)) (hM : Ct w y (ws_ y b nLy ry) fr' lo' mc' ms' A h Post PostX) (hA : A.length = nA) (hs : st = psh A rest) (hcat : (rest.map fun v => v.category).sum ≤ 8) (hR : fr' + 1 ≤ fr ∧ 8 + (nLy + 11) + lo' ≤ lo) (hm : n + mc' ≤ mc ∧ k + ms' ≤ ms)
    (kk : ∀ (v : Option Value) (h' : Hp), Post v h' → Wk w K h' (n + mc') (k + ms') (pc + 3) L (v.toList ++ rest)) (kx : ∀ (E : String) (h' : Hp), PostX E h' → Wx w K h' (n + mc') (k + ms') pc L rest E) : Wk w K h n k pc L st := by
  obtain ⟨q1, q2, q3, q4, hy⟩ := M
  subst hs
  rw [psh_eq]
  refine Wk.run3 (A' := A.toArray) (fun H locs ls R hl hL => ?_) kk kx
  exact vx_runS (fix C) (hM K.l C.2.2.2.2.2.2.2.2.1) (va_cwS nA C.hts (lw_S q1 q2 q3 q4) rfl rfl rfl hy (by rw [C.room]; exact hR)) (preS C R) rfl hA (by rw [← hL0]; exact hL.size) rfl (by simpa using hcat) hd (by rw [C.room]; exact hm)
theorem kx_SN (C : Cx w K own cc nL ret nm fr lo mc ms) (hL0 : L.length = nL) (M : McSN own idx y b nLy ry nA) (hd : decode cc pc = .ok (.invokestatic idx, 3)) (hM : Ct w y (ws_ y b nLy ry) fr' lo' mc' ms' A h Post PostX) (hA : A.length = nA) (hs : st = psh A rest) (hcat : (rest.map fun v => v.category).sum ≤ 8) (hR : fr' + 1 ≤ fr ∧ 8 + (nLy + 11) + lo' ≤ lo) (hm : n + mc' ≤ mc ∧ k + ms' ≤ ms)
    (kk : ∀ (v : Option Value) (h' : Hp), Post v h' → Wk w K h' (n + mc') (k + ms') (pc + 3) L (v.toList ++ rest)) (kx : ∀ (E : String) (h' : Hp), PostX E h' → Wx w K h' (n + mc') (k + ms') pc L rest E) : Wk w K h n k pc L st := by
  obtain ⟨host, q1, q2, q3, q4, hy⟩ := M
  subst hs
  rw [psh_eq]
  refine Wk.run3 (A' := A.toArray) (fun H locs ls R hl hL => ?_) kk kx
  exact vx_runSN (fix C) (hM K.l C.2.2.2.2.2.2.2.2.1) ⟨va_cnB nA C.hts (lw_meth q4) rfl rfl rfl (C.nbw q1 rfl) (C.hts _ q3) hy (by rw [C.room]; exact hR), C.hts _ q2, trivial⟩ (preS C R) rfl hA (by rw [← hL0]; exact hL.size) rfl (by simpa using hcat) hd (by rw [C.room]; exact hm)
theorem kx_V {ci bb : Nat} {fs : List Value} (C : Cx w K own cc nL ret nm fr lo mc ms) (hL0 : L.length = nL) (M : McV own idx ci y b nLy ry nA) (hd : decode cc pc = .ok (.invokevirtual idx, 3)) (hM : Ct w y (ws_ y b nLy ry) fr' lo' mc' ms' (.ref bb :: A) h Post PostX) (hh : h.2 bb = some (.inl (ci, fs))) (hA : A.length = nA) (hs : st = psh (.ref bb :: A) rest) (hcat : (rest.map fun v => v.category).sum ≤ 8) (hR : fr' + 1 ≤ fr ∧ 8 + (nLy + 11) + lo' ≤ lo) (hm : n + mc' ≤ mc ∧ k + ms' ≤ ms)
    (kk : ∀ (v : Option Value) (h' : Hp), Post v h' → Wk w K h' (n + mc') (k + ms') (pc + 3) L (v.toList ++ rest)) (kx : ∀ (E : String) (h' : Hp), PostX E h' → Wx w K h' (n + mc') (k + ms') pc L rest E) : Wk w K h n k pc L st := by
  obtain ⟨r, hr, hyc, q1, q2, q3, q4, q5, hy⟩ := M
  subst hs
  rw [psh, psh_eq]
  refine Wk.run3 (A' := (.ref bb :: A).toArray) (fun H locs ls R hl hL => ?_) kk kx
  exact vx_runV (C := r.1) (fix C) (hM K.l C.2.2.2.2.2.2.2.2.1) (cwV nA C.hts (lw_V q1 q2 q3 q4 q5) rfl rfl rfl ⟨hyc, hy⟩ (by rw [C.room]; exact hR)) (preV C R hh hr) rfl hA (by rw [← hL0]; exact hL.size) rfl (by simpa using hcat) hd (by rw [C.room]; exact hm)
theorem kx_VN {ci bb : Nat} {fs : List Value} (C : Cx w K own cc nL ret nm fr lo mc ms) (hL0 : L.length = nL) (M : McVN own idx ci y b nLy ry nA) (hd : decode cc pc = .ok (.invokevirtual idx, 3)) (hM : Ct w y (ws_ y b nLy ry) fr' lo' mc' ms' (.ref bb :: A) h Post PostX) (hh : h.2 bb = some (.inl (ci, fs))) (hA : A.length = nA) (hs : st = psh (.ref bb :: A) rest) (hcat : (rest.map fun v => v.category).sum ≤ 8) (hR : fr' + 1 ≤ fr ∧ 8 + (nLy + 11) + lo' ≤ lo) (hm : n + mc' ≤ mc ∧ k + ms' ≤ ms)
    (kk : ∀ (v : Option Value) (h' : Hp), Post v h' → Wk w K h' (n + mc') (k + ms') (pc + 3) L (v.toList ++ rest)) (kx : ∀ (E : String) (h' : Hp), PostX E h' → Wx w K h' (n + mc') (k + ms') pc L rest E) : Wk w K h n k pc L st := by
  obtain ⟨r, host, hr, hyc, q1, q2, q3, q4, q5, hy⟩ := M
  subst hs
  rw [psh, psh_eq]
  refine Wk.run3 (A' := (.ref bb :: A).toArray) (fun H locs ls R hl hL => ?_) kk kx
  exact vx_runVN (C := r.1) (fix C) (hM K.l C.2.2.2.2.2.2.2.2.1) ⟨va_cnB nA C.hts (lw_meth q5) rfl rfl rfl (C.nbw q1 rfl) (by rw [hyc]; exact C.hts _ q4) hy (by rw [C.room]; exact hR), C.hts _ q2, C.hts _ q3⟩ (preV C R hh hr) rfl hA (by rw [← hL0]; exact hL.size) rfl (by simpa using hcat) hd (by rw [C.room]; exact hm)
theorem kx_I {bb : Nat} (C : Cx w K own cc nL ret nm fr lo mc ms) (hL0 : L.length = nL) (M : McI own idx y b nLy nA) (hd : decode cc pc = .ok (.invokespecial idx, 3)) (hM : Ct w y (ws_ y b nLy none) fr' lo' mc' ms' (.ref bb :: A) h Post PostX) (hA : A.length = nA) (hs : st = psh (.ref bb :: A) rest) (hcat : (rest.map fun v => v.category).sum ≤ 8) (hR : fr' + 1 ≤ fr ∧ 8 + (nLy + 11) + lo' ≤ lo) (hm : n + mc' ≤ mc ∧ k + ms' ≤ ms)
    (kk : ∀ (v : Option Value) (h' : Hp), Post v h' → Wk w K h' (n + mc') (k + ms') (pc + 3) L (v.toList ++ rest)) (kx : ∀ (E : String) (h' : Hp), PostX E h' → Wx w K h' (n + mc') (k + ms') pc L rest E) : Wk w K h n k pc L st := by
  obtain ⟨hy1, q1, q2, q3, q4, hy⟩ := M
  subst hs
  rw [psh, psh_eq]
  refine Wk.run3 (A' := (.ref bb :: A).toArray) (fun H locs ls R hl hL => ?_) kk kx
  exact vx_runI (fix C) (hM K.l C.2.2.2.2.2.2.2.2.1) (cwI nA C.hts (lw_meth q4) rfl rfl rfl (C.hts _ q3) (C.hts _ q1) (C.hts _ q2) hy1 hy (by rw [C.room]; exact hR)) (preS C R) rfl hA (by rw [← hL0]; exact hL.size) rfl (by simpa using hcat) hd (by rw [C.room]; exact hm)
theorem kx_IN {bb : Nat} (C : Cx w K own cc nL ret nm fr lo mc ms) (hL0 : L.length = nL) (M : McIN own idx y b nLy nA) (hd : decode cc pc = .ok (.invokespecial idx, 3)) (hM : Ct w y (ws_ y b nLy none) fr' lo' mc' ms' (.ref bb :: A) h Post PostX) (hA : A.length = nA) (hs : st = psh (.ref bb :: A) rest) (hcat : (rest.map fun v => v.category).sum ≤ 8) (hR : fr' + 1 ≤ fr ∧ 8 + (nLy + 11) + lo' ≤ lo) (hm : n + mc' ≤ mc ∧ k + ms' ≤ ms)
    (kk : ∀ (v : Option Value) (h' : Hp), Post v h' → Wk w K h' (n + mc') (k + ms') (pc + 3) L (v.toList ++ rest)) (kx : ∀ (E : String) (h' : Hp), PostX E h' → Wx w K h' (n + mc') (k + ms') pc L rest E) : Wk w K h n k pc L st := by
  obtain ⟨host, hy1, q1, q2, q3, q4, hy⟩ := M
  subst hs
  rw [psh, psh_eq]
  refine Wk.run3 (A' := (.ref bb :: A).toArray) (fun H locs ls R hl hL => ?_) kk kx
  exact vx_runIN (fix C) (hM K.l C.2.2.2.2.2.2.2.2.1) ⟨va_cnB nA C.hts (lw_meth q4) rfl rfl rfl (C.nbw q1 rfl) (C.hts _ q3) hy (by rw [C.room]; exact hR), hy1, C.hts _ q2⟩ (preS C R) rfl hA (by rw [← hL0]; exact hL.size) rfl (by simpa using hcat) hd (by rw [C.room]; exact hm)
theorem lw_F {C : String} {x : MethodName} (h1 : Cond.methodLink own idx x ∈ lw_all) (h2 : Cond.selects C x y ∈ lw_all) (h3 : Cond.instanceMethod y ∈ lw_all) (h4 : Cond.initialized y.cls ∈ lw_all) (h5 : Cond.code y b nLy ry ∈ lw_all) : GoodIn lw_all (va_wsF own idx C x y (ws_ y b nLy ry)) := by
  refine lw_app ?_ (lw_meth h5)
  intro w hw
  simp only [List.mem_cons, List.not_mem_nil, or_false] at hw
  rcases hw with e | e | e | e
  · rw [e]; exact h1
  · rw [e]; exact h2
  · rw [e]; exact h3
  · rw [e]; exact h4
theorem kx_F {ci bb cnt : Nat} {fs : List Value} {x : MethodName} (C : Cx w K own cc nL ret nm fr lo mc ms) (hL0 : L.length = nL) (M : McF own idx ci x y b nLy ry nA) (hd : decode cc pc = .ok (.invokeinterface idx cnt, 5)) (hM : Ct w y (ws_ y b nLy ry) fr' lo' mc' ms' (.ref bb :: A) h Post PostX) (hh : h.2 bb = some (.inl (ci, fs))) (hA : A.length = nA) (hs : st = psh (.ref bb :: A) rest) (hcat : (rest.map fun v => v.category).sum ≤ 8) (hR : fr' + 1 ≤ fr ∧ 8 + (nLy + 11) + lo' ≤ lo) (hm : n + mc' ≤ mc ∧ k + ms' ≤ ms)
    (kk : ∀ (v : Option Value) (h' : Hp), Post v h' → Wk w K h' (n + mc') (k + ms') (pc + 5) L (v.toList ++ rest)) (kx : ∀ (E : String) (h' : Hp), PostX E h' → Wx w K h' (n + mc') (k + ms') pc L rest E) : Wk w K h n k pc L st := by
  obtain ⟨r, hr, hfw, q1, q2, q3, q4, q5, hy⟩ := M
  subst hs
  rw [psh, psh_eq]
  refine Wk.run5 (A' := (.ref bb :: A).toArray) (fun H locs ls R hl hL => ?_) kk kx
  exact vx_runF (C := r.1) (C.wok.1 ci r hr).1 (fix C) (hM K.l C.2.2.2.2.2.2.2.2.1) (va_cwF nA C.hts (lw_F q1 q2 q3 q4 q5) rfl rfl rfl (C.wok.2.2.2.1 _ hfw) hy (by rw [C.room]; exact hR)) (preV C R hh hr) rfl hA (by rw [← hL0]; exact hL.size) rfl (by simpa using hcat) hd (by rw [C.room]; exact hm)
end RUN
/-! ### weaker ends -/
theorem vx_Met.mono {l : Launch} {y : MethodName} {ws : List Cond} {rm : Room} {Pc : Array Value → State → Prop} {Qc Qc' : Array Value → State → Outcome → State → Prop} {XC XC' : String → State → State → Prop} {mc ms : Nat} {free : Addr → Prop} (h : vx_Met l y ws rm Pc Qc XC mc ms free) (hq : ∀ a s o t, Qc a s o t → Qc' a s o t) (hx : ∀ E s t, XC E s t → XC' E s t) : vx_Met l y ws rm Pc Qc' XC' mc ms free :=
  MetFree.mono h (fun _ _ q => q) (fun _ _ _ _ _ q => q) (fun a st o t _ q => by
    rcases q with ⟨q1, L, q2, q3⟩ | ⟨b, e, E, ce, L, q1, q2⟩
    · exact Or.inl ⟨hq _ _ _ _ q1, L, q2, q3⟩
    · exact Or.inr ⟨b, e, E, ce, L, hx _ _ _ q1, q2⟩)
theorem Ct.mono {w : Wd} {y : MethodName} {ws : List Cond} {fr lo mc ms : Nat} {A : List Value} {h : Hp} {Post Post' : Option Value → Hp → Prop} {PostX PostX' : String → Hp → Prop} (c : Ct w y ws fr lo mc ms A h Post PostX) (hp : ∀ v h', Post v h' → Post' v h') (hx : ∀ E h', PostX E h' → PostX' E h') : Ct w y ws fr lo mc ms A h Post' PostX' := fun l hl =>
  (c l hl).mono (fun _ _ _ _ ⟨v, h', e, r, p⟩ => ⟨v, h', e, r, hp v h' p⟩) (fun _ _ _ ⟨h', r, p⟩ => ⟨h', r, hx _ h' p⟩)
