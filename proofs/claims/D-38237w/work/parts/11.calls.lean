/-! ===== casts, arrays of references, returns, contracts, calls ===== -/
set_option maxRecDepth 100000
/-- a cast of an object of class number ci that holds -/
def CkO (own : String) (idx ci : Nat) : Prop := ∃ (r : vw_C) (nm : String), clAll[ci]? = some r ∧ Cond.classLink own idx nm ∈ lw_all ∧ (nm = r.1 ∨ Cond.castable r.1 nm ∈ lw_tbl)
/-- what may be stored into an array of references -/
def AsOk (kd : Nat) (c : Cel) : Prop := match c with
  | .inl o => kd = 4 ∧ ∃ r : vw_C, clAll[o.1]? = some r ∧ Cond.castable r.1 "java/lang/Object" ∈ lw_tbl
  | .inr a => a.1 = 0 ∧ (kd = 5 ∨ (kd = 4 ∧ Cond.castable "[I" "java/lang/Object" ∈ lw_tbl))
section CALLS
variable {w : Wd} {K : KT} {own nm : String} {cc : ByteArray} {nL : Nat} {ret : Option FieldType} {fr lo mc ms : Nat} {h : Hp} {n k pc : Nat} {L : List (Option Value)} {st : List Value}
theorem k_castO {ci a idx : Nat} {fs : List Value} (C : Cx w K own cc nL ret nm fr lo mc ms) (F : CkO own idx ci) (hd : decode cc pc = .ok (.checkcast idx, 3)) (hh : h.2 a = some (.inl (ci, fs))) (kk : Wk w K h n k (pc + 3) L (.ref a :: st)) : Wk w K h n k pc L (.ref a :: st) := by
  intro H locs ls R hl hL
  obtain ⟨r, nm', hc, hlk, hcs⟩ := F
  obtain ⟨⟨cell, q1, ⟨e1, e2, -, e3⟩, -⟩, -⟩ := R.2.2.2 a _ hh
  obtain ⟨hAt, hf, -⟩ := C.wok.1 ci r hc
  have hfc : K.s.vm.findClass r.1 = some cell.cls := by rw [e1]; exact hAt.1
  rcases hcs with e | e
  · subst e
    exact va_castS C.1 C.2.1 C.ownC (C.hts _ hlk) hAt ⟨cell, q1, by rw [e2]; rfl, hfc⟩ hd (kk H locs ls R hl hL)
  · exact va_castY (C := r.1) C.1 C.2.1 C.ownC (C.hts _ hlk) (C.nbw e rfl) ⟨cell, q1, by rw [e2]; rfl, hfc⟩ hd (kk H locs ls R hl hL)
/-- null passes every cast -/
theorem k_castN {idx : Nat} (C : Cx w K own cc nL ret nm fr lo mc ms) (hd : decode cc pc = .ok (.checkcast idx, 3)) (kk : Wk w K h n k (pc + 3) L (.null :: st)) : Wk w K h n k pc L (.null :: st) := by
  intro H locs ls R hl hL
  exact lv_castN C.1 C.2.1 hd (kk H locs ls R hl hL)
theorem k_castA {kd N a idx : Nat} {g : Nat → Value} {ty : FieldType} {nm' : String} (C : Cx w K own cc nL ret nm fr lo mc ms) (q : Cond.classLink own idx nm' ∈ lw_all) (ht : aTys[kd]? = some ty) (hnm : nm' = "[" ++ ty.toString) (hd : decode cc pc = .ok (.checkcast idx, 3)) (hh : h.2 a = some (.inr (kd, N, g))) (kk : Wk w K h n k (pc + 3) L (.ref a :: st)) : Wk w K h n k pc L (.ref a :: st) := by
  intro H locs ls R hl hL
  obtain ⟨⟨cell, q1, ⟨e1, e2, e3, e4⟩, -⟩, -⟩ := R.2.2.2 a _ hh
  obtain ⟨kA, comp, f1, f2, f3, -⟩ := C.wok.2.1 kd ty ht
  intro T hT X
  obtain ⟨vm', X', st'⟩ := X.checkcastYes C.1 C.ownC (C.hts _ q) (by rw [hT]; exact q1) (by rw [e2]; rfl) (by rw [hnm]; exact f3) (by rw [e1]; exact va_asg _ _) (g := F0 K.m pc ls (.ref a :: st)) rfl rfl (by rw [C.2.1]; exact hd)
  obtain ⟨t, a1, b1⟩ := kk H locs ls R hl hL (T.setVm vm') hT X'
  exact ⟨t, st' t a1, b1⟩
theorem cOld_arr {kd N : Nat} {f : Int → Option Nat} {i : Int} (h7 : kd ≠ 7) (hi : 0 ≤ i ∧ i < N ∧ i < 2147483648) : cOld (aR kd N f) = false := by
  show (kd == 7 || N == 0) = false
  have : N ≠ 0 := by omega
  simp [this, h7]
theorem k_aast {a v kd N : Nat} {f : Int → Option Nat} {i : Int} {c : Cel} (C : Cx w K own cc nL ret nm fr lo mc ms) (hd : decode cc pc = .ok (.aastore, 1)) (hh : h.2 a = some (aR kd N f)) (hv : h.2 v = some c) (hok : AsOk kd c) (hi : 0 ≤ i ∧ i < N ∧ i < 2147483648)
    (kk : ∀ h' : Hp, Put h h' a (aR kd N (up f i (some v))) → Wk w K h' n k (pc + 1) L st) : Wk w K h n k pc L (.ref v :: jI i :: .ref a :: st) := by
  intro H locs ls R hl hL
  have hkd : kd = 4 ∨ kd = 5 := by
    rcases c with o | x
    · exact Or.inl hok.1
    · rcases hok.2 with e | e
      · exact Or.inr e
      · exact Or.inl e.1
  obtain ⟨⟨cell, q1, q2, qm⟩, qz⟩ := R.2.2.2 a _ hh
  have ha := qz (cOld_arr (by omega) hi)
  obtain ⟨⟨cv, p1, p2, -⟩, -⟩ := R.2.2.2 v _ hv
  have hc := oi_clamp hi.1 hi.2.2
  obtain ⟨e1, e2, e3, e4⟩ := id q2
  have key : ∃ (kA kv kcomp : Class) (comp : ClassId) (t : FieldType), K.s.vm.classes[cell.cls]? = some kA ∧ kA.kind = .array comp t ∧ t.isReference = true ∧ K.s.vm.classes[comp]? = some kcomp ∧ cv.vm = .none ∧ K.s.vm.classes[cv.cls]? = some kv ∧ K.s.vm.assignable cv.cls comp = true := by
    rcases c with ⟨ci, fs⟩ | ⟨kd2, N2, g2⟩
    · obtain ⟨hk4, r, hr, hcast⟩ := hok
      subst hk4
      obtain ⟨kA, comp, f1, f2, f3, f4, f5⟩ := C.wok.2.1 4 _ rfl
      have f6 := f4 _ rfl
      obtain ⟨d1, d2, -, d3⟩ := p2
      obtain ⟨c0, t0, g1, g2, g3⟩ := Cond.castable_spec (va_Nw.use (A := #[]) rfl (C.nbw hcast rfl))
      obtain ⟨⟨hfc, kC, hkC, hkind⟩, -, -⟩ := C.wok.1 ci r hr
      have hc0 : c0 = w.dC ci := Option.some.inj (g1.symm.trans hfc)
      have ht0 : t0 = comp := Option.some.inj (g2.symm.trans f6)
      obtain ⟨kcomp, hkcomp, -⟩ := Vm.findClass_spec f6
      exact ⟨kA, kC, kcomp, comp, _, by rw [e1]; exact f1, f2, rfl, hkcomp, d2, by rw [d1]; exact hkC, by rw [d1, ← hc0, ← ht0]; exact g3⟩
    · obtain ⟨hk0, hcase⟩ := hok
      have hk0' : kd2 = 0 := hk0
      subst hk0'
      obtain ⟨d1, d2, -, -⟩ := p2
      obtain ⟨kI, compI, i1, i2, i3, -⟩ := C.wok.2.1 0 _ rfl
      rcases hcase with hk5 | ⟨hk4, hcast⟩
      · subst hk5
        obtain ⟨kA, comp, f1, f2, f3, f4, f5⟩ := C.wok.2.1 5 _ rfl
        have f6 := f5 _ rfl
        have hcI : w.aC 0 = comp := Option.some.inj (i3.symm.trans f6)
        exact ⟨kA, kI, kI, comp, _, by rw [e1]; exact f1, f2, rfl, by rw [← hcI]; exact i1, d2, by rw [d1]; exact i1, by rw [d1, ← hcI]; exact va_asg _ _⟩
      · subst hk4
        obtain ⟨kA, comp, f1, f2, f3, f4, f5⟩ := C.wok.2.1 4 _ rfl
        have f6 := f4 _ rfl
        obtain ⟨c0, t0, g1, g2, g3⟩ := Cond.castable_spec (va_Nw.use (A := #[]) rfl (C.nbw hcast rfl))
        have hc0 : c0 = w.aC 0 := Option.some.inj (g1.symm.trans i3)
        have ht0 : t0 = comp := Option.some.inj (g2.symm.trans f6)
        obtain ⟨kcomp, hkcomp, -⟩ := Vm.findClass_spec f6
        exact ⟨kA, kI, kcomp, comp, _, by rw [e1]; exact f1, f2, rfl, hkcomp, d2, by rw [d1]; exact i1, by rw [d1, ← hc0, ← ht0]; exact g3⟩
  obtain ⟨kA, kv, kcomp, comp, t, z1, z2, z3, z4, z5, z6, z7⟩ := key
  refine W.aast C.1 C.2.1 q1 (fun q x => by rw [e2] at x; cases x) (by rw [e2]; exact fun x => by cases x) z1 z2 z3 z4 ?_ p1 (fun q x => by rw [z5] at x; cases x) z6 z7 rfl rfl hd fun H' f1 f2 f3 => ?_
  · have := ix_in hi
    rw [e3]
    exact ⟨fun x => this (Or.inl x), Nat.not_le.mp fun x => this (Or.inr x)⟩
  rw [hc] at f1 ⊢
  have hs := up_set (mk := rf) (f := f) (x := some v) hi.1
  exact kk (hU h a (aR kd N (up f i (some v)))) ⟨rfl, by simp [hU], fun b d eb hb => by simpa [hU, hb] using eb⟩ H' _ ls (R.put ha f1 f2 f3 (cAt.set q2 (by show i.toNat < N; omega) hs.1 hs.2) (qm ha)) (hl.put ha f2) hL
theorem Rel.newarr {H H' : Heap} {cell : Cell} {kd N : Nat} {g : Nat → Value} {v0 : Value} (R : Rel w h H) (e : H' = H.push cell) (h1 : cell.cls = w.aC kd) (h2 : cell.vm = .none) (h3 : cell.slots = Array.replicate N v0) (h4 : ∀ j : Nat, j < N → g j = v0) (h5 : cell.monitor = {}) : Rel w (hN h (.inr (kd, N, g))) H' ∧ H.size ≤ H'.size := by
  subst e
  refine ⟨R.new (cell := cell) ?_ ?_ ?_ ⟨h1, h2, by rw [h3]; simp, fun j hj => ?_⟩ h5, by simp⟩
  · rw [R.1]; simp
  · rw [R.1]; simp
  · intro q hq
    rw [R.1] at hq
    rw [Array.getElem?_push, if_neg (Nat.ne_of_lt hq)]
  · have hj' : j < N := hj
    show cell.slots[j]? = some (g j)
    rw [h3, h4 j hj']
    simp [hj']
/-- newarray of a primitive kind -/
theorem k_newarr {kd : Nat} {ty : FieldType} {atype : ArrayType} {z : Int} {g : Nat → Value} (C : Cx w K own cc nL ret nm fr lo mc ms) (q : Cond.arrayClass ty ∈ lw_all) (ht : aTys[kd]? = some ty) (hat : newarray.typeOf atype = ty) (hg : ∀ j : Nat, g j = defaultValue ty) (hd : decode cc pc = .ok (.newarray atype, 2)) (hz : 0 ≤ z ∧ z * 8 ≤ 536870912) (hb : componentBytes ty ≤ 8) (hm : n + 1 ≤ mc ∧ k + z.toNat ≤ ms)
    (kk : ∀ (a : Nat) (h' : Hp), New w h h' a (.inr (kd, z.toNat, g)) → Wk w K h' (n + 1) (k + z.toNat) (pc + 2) L (.ref a :: st)) : Wk w K h n k pc L (jI z :: st) := by
  intro H locs ls R hl hL
  subst hat
  have hc := oi_clamp hz.1 (by omega : z < 2147483648)
  have e0 : (0 : Int32) = Int32.ofInt 0 := rfl
  refine W.newa (n := Int32.ofInt z) C.1 C.2.1 (C.hts _ q) rfl hd rfl (by rw [e0, oi_lt ⟨by omega, by omega, by omega, by omega⟩]; omega) ?_ (by rw [C.room]; exact hm.1) (by rw [C.room, hc]; exact hm.2) fun cA kA comp f1 f2 f3 => ?_
  · rw [hc]
    exact Nat.le_trans (Nat.mul_le_mul_left _ hb) (by omega)
  · rw [hc]
    obtain ⟨kA', comp', g1, g2, g3, -⟩ := C.wok.2.1 kd _ ht
    have hcA : cA = w.aC kd := Option.some.inj (f1.symm.trans g3)
    have hr : H.size = h.1 := R.1.symm
    obtain ⟨R', hz'⟩ := R.newarr (kd := kd) (N := z.toNat) (g := g) rfl (cell := { cls := cA, slots := Array.replicate z.toNat (defaultValue (newarray.typeOf atype)), vm := .none }) hcA rfl rfl (fun j _ => hg j) rfl
    rw [hr]
    exact kk h.1 (hN h (.inr (kd, z.toNat, g))) (new_hN R) _ locs ls R' (hl.new hz') hL
/-- anewarray of Objects -/
theorem k_newO {z : Int} {idx : Nat} (C : Cx w K own cc nL ret nm fr lo mc ms) (q : Cond.classLink own idx "java/lang/Object" ∈ lw_all) (hd : decode cc pc = .ok (.anewarray idx, 3)) (hz : 0 ≤ z ∧ z * 4 ≤ 536870912) (hm : n + 1 ≤ mc ∧ k + z.toNat ≤ ms)
    (kk : ∀ (a : Nat) (h' : Hp), New w h h' a (aR 4 z.toNat (fun _ => none)) → Wk w K h' (n + 1) (k + z.toNat) (pc + 3) L (.ref a :: st)) : Wk w K h n k pc L (jI z :: st) := by
  intro H locs ls R hl hL
  have hc := oi_clamp hz.1 (by omega : z < 2147483648)
  have e0 : (0 : Int32) = Int32.ofInt 0 := rfl
  refine W.anew (n := Int32.ofInt z) C.1 C.2.1 C.ownC (C.hts _ q) (va_AO.use C.wok.2.2.2.2.2.2.2.2.1) rfl hd rfl (by rw [e0, oi_lt ⟨by omega, by omega, by omega, by omega⟩]; omega) (by rw [hc]; omega) (by rw [C.room]; exact hm.1) (by rw [C.room, hc]; exact hm.2) fun cA kA comp f1 f2 f3 f4 => ?_
  rw [hc]
  obtain ⟨kA', comp', g1, g2, g3, -⟩ := C.wok.2.1 4 _ rfl
  have hcA : cA = w.aC 4 := Option.some.inj (f1.symm.trans g3)
  have hr : H.size = h.1 := R.1.symm
  obtain ⟨R', hz'⟩ := R.newarr (kd := 4) (N := z.toNat) (g := fun j => rf ((fun _ => none : Int → Option Nat) (j : Int))) rfl (cell := { cls := cA, slots := Array.replicate z.toNat .null, vm := .none }) hcA rfl rfl (fun j _ => rfl) rfl
  rw [hr]
  exact kk h.1 (hN h (aR 4 z.toNat (fun _ => none))) (new_hN R) _ locs ls R' (hl.new hz') hL
/-- anewarray of int[] -/
theorem k_newIA {z : Int} {idx : Nat} (C : Cx w K own cc nL ret nm fr lo mc ms) (q : Cond.classLink own idx (FieldType.array .int).toString ∈ lw_all) (hd : decode cc pc = .ok (.anewarray idx, 3)) (hz : 0 ≤ z ∧ z * 4 ≤ 536870912) (hm : n + 1 ≤ mc ∧ k + z.toNat ≤ ms)
    (kk : ∀ (a : Nat) (h' : Hp), New w h h' a (aR 5 z.toNat (fun _ => none)) → Wk w K h' (n + 1) (k + z.toNat) (pc + 3) L (.ref a :: st)) : Wk w K h n k pc L (jI z :: st) := by
  intro H locs ls R hl hL
  have hc := oi_clamp hz.1 (by omega : z < 2147483648)
  have e0 : (0 : Int32) = Int32.ofInt 0 := rfl
  refine W.anewA (n := Int32.ofInt z) (t := .int) C.1 C.2.1 C.ownC (C.hts _ q) (over_moved (Vm.Alike.refl _) C.wok.2.2.2.2.2.2.2.2.2.1) rfl hd rfl (by rw [e0, oi_lt ⟨by omega, by omega, by omega, by omega⟩]; omega) (by rw [hc]; omega) (by rw [C.room]; exact hm.1) (by rw [C.room, hc]; exact hm.2) fun cA kA comp f1 f2 f3 f4 => ?_
  rw [hc]
  obtain ⟨kA', comp', g1, g2, g3, -⟩ := C.wok.2.1 5 _ rfl
  have hcA : cA = w.aC 5 := Option.some.inj (f1.symm.trans g3)
  have hr : H.size = h.1 := R.1.symm
  obtain ⟨R', hz'⟩ := R.newarr (kd := 5) (N := z.toNat) (g := fun j => rf ((fun _ => none : Int → Option Nat) (j : Int))) rfl (cell := { cls := cA, slots := Array.replicate z.toNat .null, vm := .none }) hcA rfl rfl (fun j _ => rfl) rfl
  rw [hr]
  exact kk h.1 (hN h (aR 5 z.toNat (fun _ => none))) (new_hN R) _ locs ls R' (hl.new hz') hL
/-! ### ends -/
variable {Post : Option Value → Hp → Prop} {PostX : String → Hp → Prop}
theorem k_iret {z : Int} (C : Cx w K own cc nL (some .int) nm fr lo mc ms) (E : En w K Post PostX mc ms) (hd : decode cc pc = .ok (.ireturn, 1)) (hm : n ≤ mc ∧ k ≤ ms) (hp : Post (some (jI z)) h) : Wk w K h n k pc L [jI z] := by
  intro H locs ls R hl hL
  rw [show K.Q = _ from E]
  exact W.widen hm.1 hm.2 (vx_ret (W.iret C.1 C.2.1 C.2.2.2.2.2.1 (fun t ht _ => ⟨some (jI z), h, rfl, by rw [ht]; exact R, hp⟩) hl.2 hd C.2.2.2.2.2.2.1))
theorem k_zret {b : Bool} (C : Cx w K own cc nL (some .boolean) nm fr lo mc ms) (E : En w K Post PostX mc ms) (hd : decode cc pc = .ok (.ireturn, 1)) (hm : n ≤ mc ∧ k ≤ ms) (hp : Post (some (jI (b2i b))) h) : Wk w K h n k pc L [jI (b2i b)] := by
  intro H locs ls R hl hL
  rw [show K.Q = _ from E]
  exact W.widen hm.1 hm.2 (vx_ret (W.zret (v := Int32.ofInt (b2i b)) C.1 C.2.1 C.2.2.2.2.2.1 (nar_b b) (fun t ht _ => ⟨some (jI (b2i b)), h, rfl, by rw [ht]; exact R, hp⟩) hl.2 hd C.2.2.2.2.2.2.1))
theorem k_vret (C : Cx w K own cc nL none nm fr lo mc ms) (E : En w K Post PostX mc ms) (hd : decode cc pc = .ok (.return_, 1)) (hm : n ≤ mc ∧ k ≤ ms) (hp : Post none h) : Wk w K h n k pc L [] := by
  intro H locs ls R hl hL
  rw [show K.Q = _ from E]
  exact W.widen hm.1 hm.2 (vx_ret (W.vret C.1 C.2.1 C.2.2.2.2.2.1 (fun t ht _ => ⟨none, h, rfl, by rw [ht]; exact R, hp⟩) hl.2 hd C.2.2.2.2.2.2.1))
theorem k_aret {a : Nat} {rt : FieldType} (C : Cx w K own cc nL (some rt) nm fr lo mc ms) (hrt : (∃ n, rt = .object n) ∨ ∃ t, rt = .array t) (E : En w K Post PostX mc ms) (hd : decode cc pc = .ok (.areturn, 1)) (hm : n ≤ mc ∧ k ≤ ms) (hp : Post (some (.ref a)) h) : Wk w K h n k pc L [.ref a] := by
  intro H locs ls R hl hL
  rw [show K.Q = _ from E]
  exact W.widen hm.1 hm.2 (vx_ret (W.aret C.1 C.2.1 C.2.2.2.2.2.1 hrt (Or.inr ⟨a, rfl⟩) (fun t ht _ => ⟨some (.ref a), h, rfl, by rw [ht]; exact R, hp⟩) hl.2 hd C.2.2.2.2.2.2.1))
theorem k_aretR {r : Option Nat} {rt : FieldType} (C : Cx w K own cc nL (some rt) nm fr lo mc ms) (hrt : (∃ n, rt = .object n) ∨ ∃ t, rt = .array t) (E : En w K Post PostX mc ms) (hd : decode cc pc = .ok (.areturn, 1)) (hm : n ≤ mc ∧ k ≤ ms) (hp : Post (some (rf r)) h) : Wk w K h n k pc L [rf r] := by
  intro H locs ls R hl hL
  rw [show K.Q = _ from E]
  exact W.widen hm.1 hm.2 (vx_ret (W.aret C.1 C.2.1 C.2.2.2.2.2.1 hrt (by cases r with | none => exact Or.inl rfl | some a => exact Or.inr ⟨a, rfl⟩) (fun t ht _ => ⟨some (rf r), h, rfl, by rw [ht]; exact R, hp⟩) hl.2 hd C.2.2.2.2.2.2.1))
theorem k_lret {x : Int64} (C : Cx w K own cc nL (some .long) nm fr lo mc ms) (E : En w K Post PostX mc ms) (hd : decode cc pc = .ok (.lreturn, 1)) (hm : n ≤ mc ∧ k ≤ ms) (hp : Post (some (.long x)) h) : Wk w K h n k pc L [.long x] := by
  intro H locs ls R hl hL
  rw [show K.Q = _ from E]
  exact W.widen hm.1 hm.2 (vx_ret (W.lret C.1 C.2.1 C.2.2.2.2.2.1 (fun t ht _ => ⟨some (.long x), h, rfl, by rw [ht]; exact R, hp⟩) hl.2 hd C.2.2.2.2.2.2.1))
theorem k_dret {x : UInt64} (C : Cx w K own cc nL (some .double) nm fr lo mc ms) (E : En w K Post PostX mc ms) (hd : decode cc pc = .ok (.dreturn, 1)) (hm : n ≤ mc ∧ k ≤ ms) (hp : Post (some (.double x)) h) : Wk w K h n k pc L [.double x] := by
  intro H locs ls R hl hL
  rw [show K.Q = _ from E]
  exact W.widen hm.1 hm.2 (vx_ret (W.dret C.1 C.2.1 C.2.2.2.2.2.1 (fun t ht _ => ⟨some (.double x), h, rfl, by rw [ht]; exact R, hp⟩) hl.2 hd C.2.2.2.2.2.2.1))
/-- an exception leaves the method -/
theorem x_out {E0 : String} (C : Cx w K own cc nL ret nm fr lo mc ms) (E : En w K Post PostX mc ms) (hout : ∀ x ∈ K.c.exceptionTable.toList, covers x pc = false) (hm : n ≤ mc ∧ k ≤ ms) (hp : PostX E0 h) : Wx w K h n k pc L st E0 := by
  intro H locs ls q ce R hl hL h1 h2 h3
  rw [show K.Q = _ from E]
  exact vx_out hout C.2.2.2.2.2.2.1 h1 h2 h3 (fun t ht _ => ⟨h, by rw [ht]; exact R, hp⟩) hl.2 hm.1 hm.2
end CALLS
