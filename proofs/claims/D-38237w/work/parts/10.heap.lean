/-! ===== rows of the heap ===== -/
set_option maxRecDepth 100000
abbrev MHs (y : MethodName) (n : Nat) : Prop := y.cls ≠ "java/lang/invoke/MethodHandle" ∧ y.cls ≠ "java/lang/invoke/VarHandle" ∧ (parseMethodDescriptor y.desc).map (fun d => d.parameters.length) = some n
/-- a field to be read: class number ci, place j -/
def FdG (own : String) (idx ci j : Nat) : Prop := ∃ (r : vw_C) (ref : String), clAll[ci]? = some r ∧ j < r.2.2 ∧ Cond.fieldLink own idx ref (r.2.1 j).2.1 (r.2.1 j).2.2.1 ∈ lw_all ∧ ((r.2.1 j).1 = ref ∨ Cond.sameField ref (r.2.1 j).1 (r.2.1 j).2.1 (r.2.1 j).2.2.1 ∈ lw_all)
/-- a nest mate's -/
def FdN (own : String) (idx ci j : Nat) : Prop := ∃ (r : vw_C) (host : String), clAll[ci]? = some r ∧ j < r.2.2 ∧ Cond.fieldLinkNest own idx (r.2.1 j).1 (r.2.1 j).2.1 (r.2.1 j).2.2.1 host ∈ lw_tbl
/-- a field's type -/
def FdT (ci j : Nat) (fin : Bool) (ty : FieldType) : Prop := ∃ r : vw_C, clAll[ci]? = some r ∧ u_lay r.1 r.2.1 j ∈ lw_all ∧ (r.2.1 j).2.2.2 = fin ∧ parseFieldDescriptor (r.2.1 j).2.2.1 = some ty
/-- a class to be made -/
def NwO (own : String) (idx ci : Nat) (fs : List Value) (cnt : Nat) : Prop := ∃ r : vw_C, clAll[ci]? = some r ∧ Cond.classLink own idx r.1 ∈ lw_all ∧ Cond.instantiable r.1 r.2.2 ∈ lw_all ∧ Cond.initialized r.1 ∈ lw_all ∧ (∀ c ∈ u_ws r.1 r.2.1 r.2.2, c ∈ lw_all) ∧ fs.length = r.2.2 ∧ cnt = r.2.2 ∧
  ∀ j : Nat, j < r.2.2 → ∃ ty : FieldType, parseFieldDescriptor (r.2.1 j).2.2.1 = some ty ∧ fs[j]? = some (defaultValue ty)
/-- h' is h with the cell a put anew -/
def Put (h h' : Hp) (a : Nat) (c : Cel) : Prop := h'.1 = h.1 ∧ h'.2 a = some c ∧ ∀ (b : Nat) (d : Cel), h.2 b = some d → b ≠ a → h'.2 b = some d
/-- h' is h with a new cell q -/
def New (w : Wd) (h h' : Hp) (q : Nat) (c : Cel) : Prop := h.2 q = none ∧ h'.2 q = some c ∧ Ext h h' ∧ w.z0 ≤ q ∧ h.1 ≤ q ∧ q < h'.1
theorem Put.upd {h h' : Hp} {a : Nat} {c : Cel} (P : Put h h' a c) : Upd h h' [a] := ⟨by rw [P.1]; exact Nat.le_refl _, fun b d e hb => P.2.2 b d e (by simpa using hb)⟩
theorem New.ne {w : Wd} {h h' : Hp} {q b : Nat} {c d : Cel} (N : New w h h' q c) (e : h.2 b = some d) : b ≠ q := fun x => by rw [x, N.1] at e; cases e
theorem ne_cel {h : Hp} {a b : Nat} {c d : Cel} (e1 : h.2 a = some c) (e2 : h.2 b = some d) (hn : c ≠ d) : a ≠ b := fun x => hn (by rw [x, e2] at e1; exact (Option.some.inj e1).symm)
theorem ne_cls {i j : Nat} {f g : List Value} (h : i ≠ j) : (Sum.inl (i, f) : Cel) ≠ .inl (j, g) := fun e => h (Prod.mk.inj (Sum.inl.inj e)).1
theorem ne_ao {x : Nat × List Value} {y : Nat × Nat × (Nat → Value)} : (Sum.inl x : Cel) ≠ .inr y := fun e => by cases e
theorem ne_oa {x : Nat × List Value} {y : Nat × Nat × (Nat → Value)} : (Sum.inr y : Cel) ≠ .inl x := fun e => by cases e
theorem ne_knd {i j n m : Nat} {f g : Nat → Value} (h : i ≠ j) : (Sum.inr (i, n, f) : Cel) ≠ .inr (j, m, g) := fun e => h (Prod.mk.inj (Sum.inr.inj e)).1
theorem ne_len {i j n m : Nat} {f g : Nat → Value} (h : n ≠ m) : (Sum.inr (i, n, f) : Cel) ≠ .inr (j, m, g) := fun e => h (Prod.mk.inj (Prod.mk.inj (Sum.inr.inj e)).2).1
/-- an array of ints (kind 0; booleans 1; the script 7) -/
def aI (kd n : Nat) (f : Int → Int) : Cel := .inr (kd, n, fun j => jI (f (j : Int)))
/-- an array of references (Objects 4, int[] 5, boolean[] 6) -/
def aR (kd n : Nat) (f : Int → Option Nat) : Cel := .inr (kd, n, fun j => rf (f (j : Int)))
def up {α : Type} (f : Int → α) (i : Int) (x : α) : Int → α := fun j => if j = i then x else f j
theorem up_at {α : Type} {f : Int → α} {i : Int} {x : α} : up f i x i = x := if_pos rfl
theorem up_ne {α : Type} {f : Int → α} {i j : Int} {x : α} (h : j ≠ i) : up f i x j = f j := if_neg h
section HEAP
variable {w : Wd} {K : KT} {own nm : String} {cc : ByteArray} {nL : Nat} {ret : Option FieldType} {fr lo mc ms : Nat} {h : Hp} {n k pc : Nat} {L : List (Option Value)} {st : List Value}
theorem Cx.wok (C : Cx w K own cc nL ret nm fr lo mc ms) : Wok w K.s := C.2.2.2.2.2.2.2.2.2.1
theorem Cx.ownC (C : Cx w K own cc nL ret nm fr lo mc ms) : K.s.vm.findClass own = some K.m.cls := C.2.2.2.1
theorem Cx.hts (C : Cx w K own cc nL ret nm fr lo mc ms) : ∀ c ∈ lw_all, c.before K.args K.s = true := C.2.2.2.2.1
theorem Cx.room (C : Cx w K own cc nL ret nm fr lo mc ms) : K.R = ({ frames := fr, cells := mc, slots := ms, locals := lo } : Room) := C.2.2.2.2.2.2.2.1
theorem Cx.nbw (C : Cx w K own cc nL ret nm fr lo mc ms) {c : Cond} (h : c ∈ lw_tbl) (hb : nbWord c = true) : va_Nw c K.s := C.wok.2.2.1 c h hb
theorem cls_same {s : State} (hts : ∀ c ∈ lw_all, c.before K.args s = true) {r : vw_C} {ref : String} {j : Nat} (hsame : (r.2.1 j).1 = ref ∨ Cond.sameField ref (r.2.1 j).1 (r.2.1 j).2.1 (r.2.1 j).2.2.1 ∈ lw_all) (x : ClassId × Class × Nat × Field)
    (hx : s.fieldFound? (r.2.1 j).1 (r.2.1 j).2.1 (r.2.1 j).2.2.1 = some x) : s.fieldFound? ref (r.2.1 j).2.1 (r.2.1 j).2.2.1 = some x := by
  rcases hsame with e | e
  · rw [← e]; exact hx
  · exact u_same (hts _ e) x hx
theorem k_get {ci j a idx : Nat} {fs : List Value} {v : Value} (C : Cx w K own cc nL ret nm fr lo mc ms) (F : FdG own idx ci j) (hd : decode cc pc = .ok (.getfield idx, 3)) (hh : h.2 a = some (.inl (ci, fs))) (hv : fs[j]? = some v) (kk : Wk w K h n k (pc + 3) L (v :: st)) : Wk w K h n k pc L (.ref a :: st) := by
  intro H locs ls R hl hL
  obtain ⟨r, ref, hc, hk, hlk, hsame⟩ := F
  obtain ⟨⟨cell, q1, ⟨e1, e2, -, e3⟩, -⟩, -⟩ := R.2.2.2 a _ hh
  obtain ⟨hAt, hf, -⟩ := C.wok.1 ci r hc
  obtain ⟨cf, kf, fi, fd, hi, hs, hst⟩ := hf j hk
  exact W.getf C.1 C.2.1 C.ownC (C.hts _ hlk) (cls_same C.hts hsame _ hi) hst q1 (by rw [e2]; exact fun x => by cases x) (v := v) (by rw [hs]; exact e3 j v hv) rfl rfl hd (kk H locs ls R hl hL)
theorem k_getN {ci j a idx : Nat} {fs : List Value} {v : Value} (C : Cx w K own cc nL ret nm fr lo mc ms) (F : FdN own idx ci j) (hd : decode cc pc = .ok (.getfield idx, 3)) (hh : h.2 a = some (.inl (ci, fs))) (hv : fs[j]? = some v) (kk : Wk w K h n k (pc + 3) L (v :: st)) : Wk w K h n k pc L (.ref a :: st) := by
  intro H locs ls R hl hL
  obtain ⟨r, host, hc, hk, hlk⟩ := F
  obtain ⟨⟨cell, q1, ⟨e1, e2, -, e3⟩, -⟩, -⟩ := R.2.2.2 a _ hh
  obtain ⟨hAt, hf, -⟩ := C.wok.1 ci r hc
  obtain ⟨cf, kf, fi, fd, hi, hs, hst⟩ := hf j hk
  exact va_Wgetf C.1 C.2.1 C.ownC (va_Nw.use rfl (C.nbw hlk rfl)) hi hst q1 (by rw [e2]; exact fun x => by cases x) (v := v) (by rw [hs]; exact e3 j v hv) rfl rfl hd (kk H locs ls R hl hL)
theorem Lk.put {H H' : Heap} {locs : List Loc} {a i : Nat} (hl : Lk w K H locs) (ha : w.z0 ≤ a) (hz : H'.size = H.size) : Lk w K H' (locs ++ [⟨a, i⟩]) :=
  ⟨by rw [hz]; exact hl.1, fun q hq => by
    rcases List.mem_append.mp hq with e | e
    · exact hl.2 q e
    · simp at e; rw [e]; exact ha⟩
theorem cAt.put {ci j : Nat} {fs : List Value} {v : Value} {cell : Cell} {s : State} (hW : ClsOk w s) {r : vw_C} (hc : clAll[ci]? = some r) (hj : j < r.2.2) (h1 : cAt w (.inl (ci, fs)) cell) : cAt w (.inl (ci, fs.set j v)) (cell.setSlot (w.dI ci j) v) := by
  obtain ⟨e1, e2, ⟨r', hc', hlen⟩, e3⟩ := h1
  have hr : r' = r := Option.some.inj (hc'.symm.trans hc)
  subst hr
  refine ⟨e1, e2, ⟨r', hc', by rw [List.length_set]; exact hlen⟩, fun i u hu => ?_⟩
  have hj' : j < fs.length := by rw [hlen]; exact hj
  have hold : cell.slots[w.dI ci j]? = some fs[j] := e3 j _ (List.getElem?_eq_getElem hj')
  by_cases hi : j = i
  · subst hi
    have e : u = v := by rw [List.getElem?_set_self hj'] at hu; exact (Option.some.inj hu).symm
    subst e
    exact Cell.slots_setSlot_self _ (k2_hasslot hold)
  · rw [List.getElem?_set_ne hi] at hu
    have hi2 : i < r'.2.2 := by rw [← hlen]; exact (List.getElem?_eq_some_iff.mp hu).1
    have hdif := (hW ci r' hc).2.2 j i hj hi2 hi
    rw [slot_ne _ _ hdif]
    exact e3 i u hu
theorem k_put {ci j a idx : Nat} {fs : List Value} {v : Value} {ty : FieldType} (C : Cx w K own cc nL ret nm fr lo mc ms) (F : FdG own idx ci j) (T : FdT ci j false ty) (hd : decode cc pc = .ok (.putfield idx, 3)) (hh : h.2 a = some (.inl (ci, fs))) (ho : cOld (.inl (ci, fs)) = false) (hn : narrow ty v = v) (hft : fits ty v = true)
    (kk : ∀ h' : Hp, Put h h' a (.inl (ci, fs.set j v)) → Wk w K h' n k (pc + 3) L st) : Wk w K h n k pc L (v :: .ref a :: st) := by
  intro H locs ls R hl hL
  obtain ⟨r, ref, hc, hk, hlk, hsame⟩ := F
  obtain ⟨r', hc', hlay, hfin, hty⟩ := T
  have hr : r' = r := Option.some.inj (hc'.symm.trans hc)
  subst hr
  obtain ⟨⟨cell, q1, q2, qm⟩, qz⟩ := R.2.2.2 a _ hh
  have ha := qz ho
  have hq2 := q2
  obtain ⟨e1, e2, ⟨r2, hc2, hlen⟩, e3⟩ := q2
  have hr2 : r2 = r' := Option.some.inj (hc2.symm.trans hc)
  subst hr2
  obtain ⟨⟨hfc, kC, hkC, hkind⟩, hf, hinj⟩ := C.wok.1 ci r2 hc
  obtain ⟨cf, kf, fi, fd, hi, hs, hst⟩ := hf j hk
  have hlay2 := C.hts _ hlay
  unfold u_lay at hlay2
  rw [if_neg (by rw [hfin]; decide)] at hlay2
  have h6 := u_store hfc hkC hkind hlay2 hi hty hn hft
  have hj' : j < fs.length := by rw [hlen]; exact hk
  refine W.putK C.1 C.2.1 (f := fd) ⟨C.ownC, C.hts _ hlk, ⟨_, _, _, cls_same C.hts hsame _ hi⟩, hst⟩ (by rw [e1]; exact h6) q1 e2 (by rw [hs]; exact k2_hasslot (e3 j _ (List.getElem?_eq_getElem hj'))) rfl rfl hd fun H' f1 f2 f3 => ?_
  rw [hs] at f1 ⊢
  exact kk (hU h a (.inl (ci, fs.set j v))) ⟨rfl, by simp [hU], fun b d eb hb => by simpa [hU, hb] using eb⟩ H' _ ls (R.put ha f1 f2 f3 (cAt.put C.wok.1 hc hk hq2) (qm ha)) (hl.put ha f2) hL
theorem k_putN {ci j a idx : Nat} {fs : List Value} {v : Value} {ty : FieldType} (C : Cx w K own cc nL ret nm fr lo mc ms) (F : FdN own idx ci j) (T : FdT ci j false ty) (hd : decode cc pc = .ok (.putfield idx, 3)) (hh : h.2 a = some (.inl (ci, fs))) (ho : cOld (.inl (ci, fs)) = false) (hn : narrow ty v = v) (hft : fits ty v = true)
    (kk : ∀ h' : Hp, Put h h' a (.inl (ci, fs.set j v)) → Wk w K h' n k (pc + 3) L st) : Wk w K h n k pc L (v :: .ref a :: st) := by
  intro H locs ls R hl hL
  obtain ⟨r, host, hc, hk, hlk⟩ := F
  obtain ⟨r', hc', hlay, hfin, hty⟩ := T
  have hr : r' = r := Option.some.inj (hc'.symm.trans hc)
  subst hr
  obtain ⟨⟨cell, q1, q2, qm⟩, qz⟩ := R.2.2.2 a _ hh
  have ha := qz ho
  have hq2 := q2
  obtain ⟨e1, e2, ⟨r2, hc2, hlen⟩, e3⟩ := q2
  have hr2 : r2 = r' := Option.some.inj (hc2.symm.trans hc)
  subst hr2
  obtain ⟨⟨hfc, kC, hkC, hkind⟩, hf, hinj⟩ := C.wok.1 ci r2 hc
  obtain ⟨cf, kf, fi, fd, hi, hs, hst⟩ := hf j hk
  have hlay2 := C.hts _ hlay
  unfold u_lay at hlay2
  rw [if_neg (by rw [hfin]; decide)] at hlay2
  have h6 := u_store hfc hkC hkind hlay2 hi hty hn hft
  have hj' : j < fs.length := by rw [hlen]; exact hk
  refine va_WputK C.1 C.2.1 (f := fd) C.ownC (va_Nw.use rfl (C.nbw hlk rfl)) hi hst (by rw [e1]; exact h6) q1 e2 (by rw [hs]; exact k2_hasslot (e3 j _ (List.getElem?_eq_getElem hj'))) rfl rfl hd fun H' f1 f2 f3 => ?_
  rw [hs] at f1 ⊢
  exact kk (hU h a (.inl (ci, fs.set j v))) ⟨rfl, by simp [hU], fun b d eb hb => by simpa [hU, hb] using eb⟩ H' _ ls (R.put ha f1 f2 f3 (cAt.put C.wok.1 hc hk hq2) (qm ha)) (hl.put ha f2) hL
/-- a final field, in its class's constructor -/
theorem k_putF {ci j a idx : Nat} {fs : List Value} {v : Value} {ty : FieldType} (C : Cx w K own cc nL ret nm fr lo mc ms) (F : FdG own idx ci j) (T : FdT ci j true ty) (hi0 : nm = "<init>") (hdec : ∀ r : vw_C, clAll[ci]? = some r → (r.2.1 j).1 = own) (hd : decode cc pc = .ok (.putfield idx, 3)) (hh : h.2 a = some (.inl (ci, fs))) (ho : cOld (.inl (ci, fs)) = false ∨ w.z0 ≤ a) (hn : narrow ty v = v) (hft : fits ty v = true)
    (kk : ∀ h' : Hp, Put h h' a (.inl (ci, fs.set j v)) → Wk w K h' n k (pc + 3) L st) : Wk w K h n k pc L (v :: .ref a :: st) := by
  intro H locs ls R hl hL
  obtain ⟨r, ref, hc, hk, hlk, hsame⟩ := F
  obtain ⟨r', hc', hlay, hfin, hty⟩ := T
  have hr : r' = r := Option.some.inj (hc'.symm.trans hc)
  subst hr
  obtain ⟨⟨cell, q1, q2, qm⟩, qz⟩ := R.2.2.2 a _ hh
  have ha : w.z0 ≤ a := ho.elim qz id
  have hq2 := q2
  obtain ⟨e1, e2, ⟨r2, hc2, hlen⟩, e3⟩ := q2
  have hr2 : r2 = r' := Option.some.inj (hc2.symm.trans hc)
  subst hr2
  obtain ⟨⟨hfc, kC, hkC, hkind⟩, hf, hinj⟩ := C.wok.1 ci r2 hc
  obtain ⟨cf, kf, fi, fd, hi, hs, hst⟩ := hf j hk
  have hlay2 := C.hts _ hlay
  unfold u_lay at hlay2
  rw [if_pos hfin] at hlay2
  have hcf : K.m.cls = cf := by
    obtain ⟨_, _, c', _, _, _, -, -, hf', -, -, -, hown2, -⟩ := Cond.laysFinal_spec hlay2
    have e1 : c' = cf := by have := hi.symm.trans hf'; simp at this; exact this.1.symm
    rw [hdec _ hc] at hown2
    rw [← e1]; exact Option.some.inj (C.ownC.symm.trans hown2)
  have h6 := u_fits hfc hkC hkind (Or.inr hlay2) hi hty hn hft
  have hj' : j < fs.length := by rw [hlen]; exact hk
  have hnm : K.meth.name = "<init>" := by rw [← hi0]; exact C.2.2.2.2.2.2.2.2.2.2.2.2
  refine W.putFinK C.1 C.2.1 C.ownC (C.hts _ hlk) (cls_same C.hts hsame _ hi) hst hcf hnm (by rw [e1]; exact h6) q1 e2 (by rw [hs]; exact k2_hasslot (e3 j _ (List.getElem?_eq_getElem hj'))) rfl rfl hd fun H' f1 f2 f3 => ?_
  rw [hs] at f1 ⊢
  exact kk (hU h a (.inl (ci, fs.set j v))) ⟨rfl, by simp [hU], fun b d eb hb => by simpa [hU, hb] using eb⟩ H' _ ls (R.put ha f1 f2 f3 (cAt.put C.wok.1 hc hk hq2) (qm ha)) (hl.put ha f2) hL
theorem new_hN {c : Cel} {H : Heap} (R : Rel w h H) : New w h (hN h c) h.1 c := by
  have h0 : h.2 h.1 = none := by
    cases e : h.2 h.1 with
    | none => rfl
    | some d => exact absurd (R.lt e) (Nat.lt_irrefl _)
  refine ⟨h0, by simp [hN], ⟨Nat.le_succ _, fun a d e => ?_⟩, by rw [R.1]; exact R.2.1, Nat.le_refl _, Nat.lt_succ_self _⟩
  have : a ≠ h.1 := fun x => by rw [x, h0] at e; cases e
  simpa [hN, this] using e
theorem Lk.new {H H' : Heap} {locs : List Loc} (hl : Lk w K H locs) (hz : H.size ≤ H'.size) : Lk w K H' locs := ⟨Nat.le_trans hl.1 hz, hl.2⟩
theorem k_new {ci idx cnt : Nat} {fs : List Value} (C : Cx w K own cc nL ret nm fr lo mc ms) (N : NwO own idx ci fs cnt) (hd : decode cc pc = .ok (.new idx, 3)) (hm : n + 1 ≤ mc ∧ k + cnt ≤ ms) (kk : ∀ (q : Nat) (h' : Hp), New w h h' q (.inl (ci, fs)) → Wk w K h' (n + 1) (k + cnt) (pc + 3) L (.ref q :: st)) : Wk w K h n k pc L st := by
  intro H locs ls R hl hL
  obtain ⟨r, hc, hlk, hins, hini, hin, hlen, hcnt, hdef⟩ := N
  obtain ⟨⟨hfc, kC0, hkC0, hkind0⟩, hf, hinj⟩ := C.wok.1 ci r hc
  subst hcnt
  refine W.newcK C.1 C.2.1 C.ownC (C.hts _ hlk) (C.hts _ hins) (C.hts _ hini) rfl hd (by rw [C.room]; exact hm.1) (by rw [C.room]; exact hm.2) hfc (h := h.1) R.1.symm fun H' kC f1 f2 f3 f4 => ?_
  have hat : cAt w (.inl (ci, fs)) (blank (w.dC ci) kC) := by
    refine ⟨rfl, rfl, ⟨r, hc, hlen⟩, fun j v hv => ?_⟩
    have hj : j < r.2.2 := by rw [← hlen]; exact (List.getElem?_eq_some_iff.mp hv).1
    obtain ⟨ty, ht, hfs⟩ := hdef j hj
    obtain ⟨cf, kf, fi, fd, hi, hs, hst⟩ := hf j hj
    have h3 := (u_facts hfc f1 (u_lays C.hts hin hj) hi).2.2
    rw [(State.fieldFound?_type hi ht).2] at h3
    have e : v = defaultValue ty := Option.some.inj (hv.symm.trans hfs)
    rw [e, ← hs]
    exact k2_blank h3
  exact kk h.1 (hN h (.inl (ci, fs))) (new_hN R) H' locs ls (R.new f2 f3 (fun q hq => f4 q hq) hat rfl) (hl.new (by rw [f3, R.1]; exact Nat.le_succ _)) hL
theorem k_objinit {a idx : Nat} (C : Cx w K own cc nL ret nm fr lo mc ms) (hL0 : L.length = nL) (q1 : Cond.methodLink own idx objectInit ∈ lw_all) (q2 : Cond.instanceMethod objectInit ∈ lw_all) (q3 : Cond.code objectInit ⟨#[0xb1]⟩ 1 none ∈ lw_all) (hd : decode cc pc = .ok (.invokespecial idx, 3)) (hr : 1 ≤ fr ∧ (st.map fun v => v.category).sum + 12 ≤ lo) (kk : Wk w K h n k (pc + 3) L st) : Wk w K h n k pc L (.ref a :: st) := by
  intro H locs ls R hl hL
  exact W.objInit C.1 C.2.1 C.ownC (C.hts _ q1) (C.hts _ q2) (C.hts _ q3) rfl (by rw [C.2.2.1, ← hL0]; exact hL.size) rfl hd (by rw [C.room]; exact hr.1) (by rw [C.room]; show 2 * 0 + _ + 12 ≤ lo; omega) (kk H locs ls R hl hL)
/-! ### arrays -/
theorem arr_of {kd : Nat} {ty : FieldType} (hA : ArrOk w K.s) (ht : aTys[kd]? = some ty) {cell : Cell} (h1 : cell.cls = w.aC kd) (h2 : cell.vm = .none) : K.s.isArrayOf cell ty := by
  obtain ⟨kA, comp, e1, e2, -⟩ := hA kd ty ht
  exact ⟨fun q e => (by rw [h2] at e; cases e), kA, by rw [h1]; exact e1, comp, e2⟩
theorem k_alen {a kd N : Nat} {g : Nat → Value} {ty : FieldType} (C : Cx w K own cc nL ret nm fr lo mc ms) (hd : decode cc pc = .ok (.arraylength, 1)) (hh : h.2 a = some (.inr (kd, N, g))) (ht : aTys[kd]? = some ty) (kk : Wk w K h n k (pc + 1) L (jI (N : Int) :: st)) : Wk w K h n k pc L (.ref a :: st) := by
  intro H locs ls R hl hL
  obtain ⟨⟨cell, q1, ⟨e1, e2, e3, e4⟩, -⟩, -⟩ := R.2.2.2 a _ hh
  exact W.alen (n := Int32.ofInt (N : Int)) C.1 C.2.1 q1 (arr_of C.wok.2.1 ht e1 e2) (by rw [e3, ← nI_oi]; rfl) rfl rfl hd (kk H locs ls R hl hL)
theorem ix_in {i : Int} {N : Nat} (hi : 0 ≤ i ∧ i < N ∧ i < 2147483648) : ¬ (Int32.ofInt i < 0 ∨ N ≤ (Int32.ofInt i).toNatClampNeg) := by
  have e0 : (0 : Int32) = Int32.ofInt 0 := rfl
  rw [e0, oi_lt ⟨by omega, by omega, by omega, by omega⟩, oi_clamp hi.1 hi.2.2]
  omega
theorem k_iald {a kd N : Nat} {f : Int → Int} {i : Int} (C : Cx w K own cc nL ret nm fr lo mc ms) (hd : decode cc pc = .ok (.iaload, 1)) (hh : h.2 a = some (aI kd N f)) (ht : aTys[kd]? = some .int) (hi : 0 ≤ i ∧ i < N ∧ i < 2147483648) (kk : Wk w K h n k (pc + 1) L (jI (f i) :: st)) : Wk w K h n k pc L (jI i :: .ref a :: st) := by
  intro H locs ls R hl hL
  obtain ⟨⟨cell, q1, ⟨e1, e2, e3, e4⟩, -⟩, -⟩ := R.2.2.2 a _ hh
  have hc := oi_clamp hi.1 hi.2.2
  refine W.iald (v := jI (f i)) C.1 C.2.1 q1 (arr_of C.wok.2.1 ht e1 e2) (by rw [e2]; exact fun x => by cases x) (by rw [e3]; exact ix_in hi) ?_ rfl rfl hd (kk H locs ls R hl hL)
  rw [hc]
  have := e4 i.toNat (by show i.toNat < N; omega)
  rw [this]
  show some (jI (f ((i.toNat : Nat) : Int))) = _
  rw [Int.toNat_of_nonneg hi.1]
theorem k_zald {a N : Nat} {f : Int → Int} {i : Int} (C : Cx w K own cc nL ret nm fr lo mc ms) (hd : decode cc pc = .ok (.baload, 1)) (hh : h.2 a = some (aI 1 N f)) (hi : 0 ≤ i ∧ i < N ∧ i < 2147483648) (kk : Wk w K h n k (pc + 1) L (jI (f i) :: st)) : Wk w K h n k pc L (jI i :: .ref a :: st) := by
  intro H locs ls R hl hL
  obtain ⟨⟨cell, q1, ⟨e1, e2, e3, e4⟩, -⟩, -⟩ := R.2.2.2 a _ hh
  have hc := oi_clamp hi.1 hi.2.2
  refine W.zald (v := jI (f i)) C.1 C.2.1 q1 (arr_of (kd := 1) C.wok.2.1 rfl e1 e2) (by rw [e2]; exact fun x => by cases x) (by rw [e3]; exact ix_in hi) ?_ rfl rfl hd (kk H locs ls R hl hL)
  rw [hc]
  have := e4 i.toNat (by show i.toNat < N; omega)
  rw [this]
  show some (jI (f ((i.toNat : Nat) : Int))) = _
  rw [Int.toNat_of_nonneg hi.1]
theorem k_lald {a N : Nat} {g : Nat → Value} {x : Int64} {i : Int} (C : Cx w K own cc nL ret nm fr lo mc ms) (hd : decode cc pc = .ok (.laload, 1)) (hh : h.2 a = some (.inr (2, N, g))) (hi : 0 ≤ i ∧ i < N ∧ i < 2147483648) (hv : g i.toNat = .long x) (kk : Wk w K h n k (pc + 1) L (.long x :: st)) : Wk w K h n k pc L (jI i :: .ref a :: st) := by
  intro H locs ls R hl hL
  obtain ⟨⟨cell, q1, ⟨e1, e2, e3, e4⟩, -⟩, -⟩ := R.2.2.2 a _ hh
  have hc := oi_clamp hi.1 hi.2.2
  refine W.lald (v := .long x) C.1 C.2.1 q1 (arr_of (kd := 2) C.wok.2.1 rfl e1 e2) (by rw [e2]; exact fun x => by cases x) (by rw [e3]; exact ix_in hi) ?_ rfl rfl hd (kk H locs ls R hl hL)
  rw [hc, e4 i.toNat (by show i.toNat < N; omega)]
  exact congrArg some hv
theorem k_dald {a N : Nat} {g : Nat → Value} {x : UInt64} {i : Int} (C : Cx w K own cc nL ret nm fr lo mc ms) (hd : decode cc pc = .ok (.daload, 1)) (hh : h.2 a = some (.inr (3, N, g))) (hi : 0 ≤ i ∧ i < N ∧ i < 2147483648) (hv : g i.toNat = .double x) (kk : Wk w K h n k (pc + 1) L (.double x :: st)) : Wk w K h n k pc L (jI i :: .ref a :: st) := by
  intro H locs ls R hl hL
  obtain ⟨⟨cell, q1, ⟨e1, e2, e3, e4⟩, -⟩, -⟩ := R.2.2.2 a _ hh
  have hc := oi_clamp hi.1 hi.2.2
  refine W.dald (v := .double x) C.1 C.2.1 q1 (arr_of (kd := 3) C.wok.2.1 rfl e1 e2) (by rw [e2]; exact fun x => by cases x) (by rw [e3]; exact ix_in hi) ?_ rfl rfl hd (kk H locs ls R hl hL)
  rw [hc, e4 i.toNat (by show i.toNat < N; omega)]
  exact congrArg some hv
theorem k_aald {a kd N : Nat} {f : Int → Option Nat} {i : Int} {ty : FieldType} {r : Option Nat} (C : Cx w K own cc nL ret nm fr lo mc ms) (hd : decode cc pc = .ok (.aaload, 1)) (hh : h.2 a = some (aR kd N f)) (ht : aTys[kd]? = some ty) (hty : ty.isReference = true) (hi : 0 ≤ i ∧ i < N ∧ i < 2147483648) (hr : f i = r) (kk : Wk w K h n k (pc + 1) L (rf r :: st)) : Wk w K h n k pc L (jI i :: .ref a :: st) := by
  intro H locs ls R hl hL
  obtain ⟨⟨cell, q1, ⟨e1, e2, e3, e4⟩, -⟩, -⟩ := R.2.2.2 a _ hh
  have hc := oi_clamp hi.1 hi.2.2
  refine W.aald (v := rf r) C.1 C.2.1 q1 (arr_of C.wok.2.1 ht e1 e2) hty (by rw [e2]; exact fun x => by cases x) (by rw [e3]; exact ix_in hi) ?_ rfl rfl hd (kk H locs ls R hl hL)
  rw [hc]
  have := e4 i.toNat (by show i.toNat < N; omega)
  rw [this]
  show some (rf (f ((i.toNat : Nat) : Int))) = _
  rw [Int.toNat_of_nonneg hi.1, hr]
theorem cAt.set {kd N i : Nat} {g g' : Nat → Value} {v : Value} {cell : Cell} (h1 : cAt w (.inr (kd, N, g)) cell) (hi : i < N) (h2 : g' i = v) (h3 : ∀ j, j ≠ i → g' j = g j) : cAt w (.inr (kd, N, g')) (cell.setSlot i v) := by
  obtain ⟨e1, e2, e3, e4⟩ := h1
  refine ⟨e1, e2, by rw [k2_slotsz]; exact e3, fun j hj => ?_⟩
  by_cases hij : j = i
  · subst hij
    rw [Cell.slots_setSlot_self _ (by rw [e3]; exact hi)]
    exact congrArg some h2.symm
  · rw [slot_ne _ _ (Ne.symm hij), e4 j hj]
    exact congrArg some (h3 j hij).symm
theorem up_set {α : Type} {mk : α → Value} {f : Int → α} {i : Int} {x : α} (hi : 0 ≤ i) : (fun j : Nat => mk (up f i x (j : Int))) i.toNat = mk x ∧ ∀ j : Nat, j ≠ i.toNat → (fun j : Nat => mk (up f i x (j : Int))) j = (fun j : Nat => mk (f (j : Int))) j := by
  refine ⟨?_, fun j hj => ?_⟩
  · show mk (up f i x ((i.toNat : Nat) : Int)) = mk x
    rw [Int.toNat_of_nonneg hi, up_at]
  · show mk (up f i x (j : Int)) = mk (f (j : Int))
    rw [up_ne (by omega)]
theorem k_iast {a N : Nat} {f : Int → Int} {i x : Int} (C : Cx w K own cc nL ret nm fr lo mc ms) (hd : decode cc pc = .ok (.iastore, 1)) (hh : h.2 a = some (aI 0 N f)) (hi : 0 ≤ i ∧ i < N ∧ i < 2147483648)
    (kk : ∀ h' : Hp, Put h h' a (aI 0 N (up f i x)) → Wk w K h' n k (pc + 1) L st) : Wk w K h n k pc L (jI x :: jI i :: .ref a :: st) := by
  intro H locs ls R hl hL
  obtain ⟨⟨cell, q1, q2, qm⟩, qz⟩ := R.2.2.2 a _ hh
  have ho : cOld (aI 0 N f) = false := by
    show (false || N == 0) = false
    have : N ≠ 0 := by omega
    simp [this]
  have ha := qz ho
  have hc := oi_clamp hi.1 hi.2.2
  obtain ⟨e1, e2, e3, e4⟩ := id q2
  refine W.iast (x := Int32.ofInt x) C.1 C.2.1 q1 (arr_of (kd := 0) C.wok.2.1 rfl e1 e2) (by rw [e2]; exact fun x => by cases x) (by rw [e3]; exact ix_in hi) rfl rfl hd fun H' f1 f2 f3 => ?_
  rw [hc] at f1 ⊢
  have hs := up_set (mk := jI) (f := f) (x := x) hi.1
  exact kk (hU h a (aI 0 N (up f i x))) ⟨rfl, by simp [hU], fun b d eb hb => by simpa [hU, hb] using eb⟩ H' _ ls (R.put ha f1 f2 f3 (cAt.set q2 (by show i.toNat < N; omega) hs.1 hs.2) (qm ha)) (hl.put ha f2) hL
theorem nar_b (b : Bool) : narrow .boolean (jI (b2i b)) = jI (b2i b) := by cases b <;> rfl
theorem fit_b (b : Bool) : fits .boolean (jI (b2i b)) = true := by cases b <;> rfl
theorem k_zast {a N : Nat} {f : Int → Int} {i : Int} {b : Bool} (C : Cx w K own cc nL ret nm fr lo mc ms) (hd : decode cc pc = .ok (.bastore, 1)) (hh : h.2 a = some (aI 1 N f)) (hi : 0 ≤ i ∧ i < N ∧ i < 2147483648)
    (kk : ∀ h' : Hp, Put h h' a (aI 1 N (up f i (b2i b))) → Wk w K h' n k (pc + 1) L st) : Wk w K h n k pc L (jI (b2i b) :: jI i :: .ref a :: st) := by
  intro H locs ls R hl hL
  obtain ⟨⟨cell, q1, q2, qm⟩, qz⟩ := R.2.2.2 a _ hh
  have ho : cOld (aI 1 N f) = false := by
    show (false || N == 0) = false
    have : N ≠ 0 := by omega
    simp [this]
  have ha := qz ho
  have hc := oi_clamp hi.1 hi.2.2
  obtain ⟨e1, e2, e3, e4⟩ := id q2
  refine W.zast (x := Int32.ofInt (b2i b)) C.1 C.2.1 q1 (arr_of (kd := 1) C.wok.2.1 rfl e1 e2) (by rw [e2]; exact fun x => by cases x) (by rw [e3]; exact ix_in hi) rfl rfl hd fun H' f1 f2 f3 => ?_
  rw [hc] at f1 ⊢
  have f1' : H'[a]? = some (cell.setSlot i.toNat (jI (b2i b))) := by
    rw [f1]
    cases b <;> rfl
  have hs := up_set (mk := jI) (f := f) (x := b2i b) hi.1
  exact kk (hU h a (aI 1 N (up f i (b2i b)))) ⟨rfl, by simp [hU], fun b d eb hb => by simpa [hU, hb] using eb⟩ H' _ ls (R.put ha f1' f2 f3 (cAt.set q2 (by show i.toNat < N; omega) hs.1 hs.2) (qm ha)) (hl.put ha f2) hL
def upV (g : Nat → Value) (i : Nat) (v : Value) : Nat → Value := fun j => if j = i then v else g j
theorem k_last {a N : Nat} {g : Nat → Value} {i : Int} {x : Int64} (C : Cx w K own cc nL ret nm fr lo mc ms) (hd : decode cc pc = .ok (.lastore, 1)) (hh : h.2 a = some (.inr (2, N, g))) (hi : 0 ≤ i ∧ i < N ∧ i < 2147483648)
    (kk : ∀ h' : Hp, Put h h' a (.inr (2, N, upV g i.toNat (.long x))) → Wk w K h' n k (pc + 1) L st) : Wk w K h n k pc L (.long x :: jI i :: .ref a :: st) := by
  intro H locs ls R hl hL
  obtain ⟨⟨cell, q1, q2, qm⟩, qz⟩ := R.2.2.2 a _ hh
  have ho : cOld (.inr (2, N, g)) = false := by
    show (false || N == 0) = false
    have : N ≠ 0 := by omega
    simp [this]
  have ha := qz ho
  have hc := oi_clamp hi.1 hi.2.2
  obtain ⟨e1, e2, e3, e4⟩ := id q2
  refine W.last C.1 C.2.1 q1 (arr_of (kd := 2) C.wok.2.1 rfl e1 e2) (by rw [e2]; exact fun x => by cases x) (by rw [e3]; exact ix_in hi) rfl rfl hd fun H' f1 f2 f3 => ?_
  rw [hc] at f1 ⊢
  exact kk (hU h a (.inr (2, N, upV g i.toNat (.long x)))) ⟨rfl, by simp [hU], fun b d eb hb => by simpa [hU, hb] using eb⟩ H' _ ls (R.put ha f1 f2 f3 (cAt.set q2 (by show i.toNat < N; omega) (if_pos rfl) (fun j hj => if_neg hj)) (qm ha)) (hl.put ha f2) hL
theorem k_dast {a N : Nat} {g : Nat → Value} {i : Int} {x : UInt64} (C : Cx w K own cc nL ret nm fr lo mc ms) (hd : decode cc pc = .ok (.dastore, 1)) (hh : h.2 a = some (.inr (3, N, g))) (hi : 0 ≤ i ∧ i < N ∧ i < 2147483648)
    (kk : ∀ h' : Hp, Put h h' a (.inr (3, N, upV g i.toNat (.double x))) → Wk w K h' n k (pc + 1) L st) : Wk w K h n k pc L (.double x :: jI i :: .ref a :: st) := by
  intro H locs ls R hl hL
  obtain ⟨⟨cell, q1, q2, qm⟩, qz⟩ := R.2.2.2 a _ hh
  have ho : cOld (.inr (3, N, g)) = false := by
    show (false || N == 0) = false
    have : N ≠ 0 := by omega
    simp [this]
  have ha := qz ho
  have hc := oi_clamp hi.1 hi.2.2
  obtain ⟨e1, e2, e3, e4⟩ := id q2
  refine W.dast C.1 C.2.1 q1 (arr_of (kd := 3) C.wok.2.1 rfl e1 e2) (by rw [e2]; exact fun x => by cases x) (by rw [e3]; exact ix_in hi) rfl rfl hd fun H' f1 f2 f3 => ?_
  rw [hc] at f1 ⊢
  exact kk (hU h a (.inr (3, N, upV g i.toNat (.double x)))) ⟨rfl, by simp [hU], fun b d eb hb => by simpa [hU, hb] using eb⟩ H' _ ls (R.put ha f1 f2 f3 (cAt.set q2 (by show i.toNat < N; omega) (if_pos rfl) (fun j hj => if_neg hj)) (qm ha)) (hl.put ha f2) hL
/-- static references -/
theorem k_gets {C0 n0 d0 : String} {i0 idx : Nat} (C : Cx w K own cc nL ret nm fr lo mc ms) (hst : (C0, n0, d0, i0) ∈ stAll) (q1 : Cond.fieldLink own idx C0 n0 d0 ∈ lw_all) (hd : decode cc pc = .ok (.getstatic idx, 3)) (kk : Wk w K h n k (pc + 3) L (.ref (w.ad i0) :: st)) : Wk w K h n k pc L st := by
  intro H locs ls R hl hL
  obtain ⟨cf, kf, fi, f, a, cell, h1, h2, h3, h4, h5, h6, h7, h8⟩ := C.wok.2.2.2.2.1 _ hst
  exact W.gets C.1 C.2.1 C.ownC (C.hts _ q1) h1 h2 h3 h4 (by rw [R.2.2.1.1 a (Array.getElem?_eq_some_iff.mp h5).1]; exact h5) (fun e => by rw [e] at h6; cases h6) h7 rfl hd (kk H locs ls R hl hL)
end HEAP
