/-! ===== natives: arraycopy, getClass, class constants ===== -/
set_option maxRecDepth 100000
section NAT
variable {w : Wd} {K : KT} {own nm : String} {cc : ByteArray} {nL : Nat} {ret : Option FieldType} {fr lo mc ms : Nat} {h : Hp} {n k pc : Nat} {L : List (Option Value)} {st : List Value}
theorem asO : ∀ ci : Nat, ci < 21 → ∃ r : vw_C, clAll[ci]? = some r ∧ Cond.castable r.1 "java/lang/Object" ∈ lw_tbl
  | 0, _ => ⟨_, rfl, q1658⟩
  | 1, _ => ⟨_, rfl, q1660⟩
  | 2, _ => ⟨_, rfl, q1661⟩
  | 3, _ => ⟨_, rfl, q1664⟩
  | 4, _ => ⟨_, rfl, q1665⟩
  | 5, _ => ⟨_, rfl, q1667⟩
  | 6, _ => ⟨_, rfl, q1670⟩
  | 7, _ => ⟨_, rfl, q1671⟩
  | 8, _ => ⟨_, rfl, q1672⟩
  | 9, _ => ⟨_, rfl, q1673⟩
  | 10, _ => ⟨_, rfl, q1678⟩
  | 11, _ => ⟨_, rfl, q1679⟩
  | 12, _ => ⟨_, rfl, q1680⟩
  | 13, _ => ⟨_, rfl, q1683⟩
  | 14, _ => ⟨_, rfl, q1659⟩
  | 15, _ => ⟨_, rfl, q1666⟩
  | 16, _ => ⟨_, rfl, q1682⟩
  | 17, _ => ⟨_, rfl, q1674⟩
  | 18, _ => ⟨_, rfl, q1675⟩
  | 19, _ => ⟨_, rfl, q1676⟩
  | 20, _ => ⟨_, rfl, q1677⟩
  | n + 21, h => absurd h (by omega)
/-- what may be an element of a list -/
def okE (c : Cel) : Bool := match c with
  | .inl o => decide (o.1 < 21)
  | .inr a => a.1 == 0
theorem okE_as {c : Cel} (e : okE c = true) : AsOk 4 c := by
  rcases c with o | a
  · exact ⟨rfl, asO o.1 (by simpa [okE] using e)⟩
  · exact ⟨by simpa [okE] using e, Or.inr ⟨rfl, q1690⟩⟩
theorem okE_takes (C : Cx w K own cc nL ret nm fr lo mc ms) {H : Heap} (R : Rel w h H) {y : Nat} {c : Cel} (hy : h.2 y = some c) (hok : okE c = true) {comp : ClassId} (hcomp : K.s.vm.findClass "java/lang/Object" = some comp) {T : State} (hT : T.heap = H) {vm₁ : Vm} (hal : K.s.vm.Alike vm₁) : (T.setVm vm₁).takes comp (.ref y) := by
  obtain ⟨⟨cv, p1, p2, -⟩, -⟩ := R.2.2.2 y _ hy
  obtain ⟨kE, hkE, -⟩ := Vm.findClass_spec hcomp
  obtain ⟨kE', hkE', -⟩ := hal.2.2 _ _ hkE
  rcases c with ⟨ci, fs⟩ | ⟨kd2, N2, g2⟩
  · obtain ⟨r, hr, hcast⟩ := asO ci (by simpa [okE] using hok)
    obtain ⟨d1, d2, -, d3⟩ := p2
    obtain ⟨c0, t0, g1, g2, g3⟩ := Cond.castable_spec (va_Nw.use (A := #[]) rfl (C.nbw hcast rfl))
    obtain ⟨⟨hfc, kC, hkC, hkind⟩, -, -⟩ := C.wok.1 ci r hr
    have hc0 : c0 = w.dC ci := Option.some.inj (g1.symm.trans hfc)
    have ht0 : t0 = comp := Option.some.inj (g2.symm.trans hcomp)
    obtain ⟨kC', hkC', -⟩ := hal.2.2 _ _ hkC
    refine ⟨cv, (show T.heap[y]? = some cv by rw [hT]; exact p1), (fun q x => by rw [d2] at x; cases x), ⟨kC', by rw [d1]; exact hkC'⟩, ⟨kE', hkE'⟩, ?_⟩
    show vm₁.assignable _ _ = true
    rw [hal.assignable, d1, ← hc0, ← ht0]
    exact g3
  · have hk0 : kd2 = 0 := by simpa [okE] using hok
    subst hk0
    obtain ⟨d1, d2, -, -⟩ := p2
    obtain ⟨kI, compI, i1, i2, i3, -⟩ := C.wok.2.1 0 _ rfl
    obtain ⟨c0, t0, g1, g2, g3⟩ := Cond.castable_spec (va_Nw.use (A := #[]) rfl (C.nbw q1690 rfl))
    have hc0 : c0 = w.aC 0 := Option.some.inj (g1.symm.trans i3)
    have ht0 : t0 = comp := Option.some.inj (g2.symm.trans hcomp)
    obtain ⟨kC', hkC', -⟩ := hal.2.2 _ _ i1
    refine ⟨cv, (show T.heap[y]? = some cv by rw [hT]; exact p1), (fun q x => by rw [d2] at x; cases x), ⟨kC', by rw [d1]; exact hkC'⟩, ⟨kE', hkE'⟩, ?_⟩
    show vm₁.assignable _ _ = true
    rw [hal.assignable, d1, ← hc0, ← ht0]
    exact g3
def cpV (g0 g1 : Nat → Value) (sp dp len : Nat) : Nat → Value := fun j => if dp ≤ j ∧ j < dp + len then g0 (sp + (j - dp)) else g1 j
/-- System.arraycopy between two arrays of one kind (ints, or Objects) -/
theorem k_acopy {idx kd a0 a N0 N1 : Nat} {g0 g1 : Nat → Value} {sp dp len : Int} (C : Cx w K own cc nL ret nm fr lo mc ms) (hL0 : L.length = nL) (q : Cond.methodLink own idx arraycopyName ∈ lw_all) (hd : decode cc pc = .ok (.invokestatic idx, 3)) (hkd : kd = 0 ∨ kd = 4) (hh0 : h.2 a0 = some (.inr (kd, N0, g0))) (hh1 : h.2 a = some (.inr (kd, N1, g1))) (ho : cOld (.inr (kd, N1, g1)) = false)
    (hb : 0 ≤ sp ∧ 0 ≤ dp ∧ 0 ≤ len ∧ sp + len ≤ N0 ∧ dp + len ≤ N1 ∧ (N0 : Int) < 2147483648 ∧ (N1 : Int) < 2147483648)
    (hel : ∀ i : Nat, i < len.toNat → (kd = 0 ∧ ∃ z : Int, g0 (sp.toNat + i) = jI z) ∨ (kd = 4 ∧ (g0 (sp.toNat + i) = .null ∨ ∃ (y : Nat) (c : Cel), g0 (sp.toNat + i) = .ref y ∧ h.2 y = some c ∧ okE c = true)))
    (hR : 1 ≤ fr ∧ (st.map fun v => v.category).sum + 40 ≤ lo)
    (kk : ∀ h' : Hp, Put h h' a (.inr (kd, N1, cpV g0 g1 sp.toNat dp.toNat len.toNat)) → Wk w K h' n k (pc + 3) L st) : Wk w K h n k pc L (jI len :: jI dp :: .ref a :: jI sp :: .ref a0 :: st) := by
  intro H locs ls R hl hL
  obtain ⟨⟨cs, q1, ⟨e1, e2, e3, e4⟩, qm0⟩, qz0⟩ := R.2.2.2 a0 _ hh0
  obtain ⟨⟨cd, p1, pc', pm⟩, pz⟩ := R.2.2.2 a _ hh1
  obtain ⟨f1, f2, f3, f4⟩ := pc'
  have ha := pz ho
  have cS := oi_clamp hb.1 (by omega : sp < 2147483648)
  have cD := oi_clamp hb.2.1 (by omega : dp < 2147483648)
  have cL := oi_clamp hb.2.2.1 (by omega : len < 2147483648)
  have tS := oi_toInt (by omega : -2147483648 ≤ sp) (by omega : sp < 2147483648)
  have tD := oi_toInt (by omega : -2147483648 ≤ dp) (by omega : dp < 2147483648)
  have tL := oi_toInt (by omega : -2147483648 ≤ len) (by omega : len < 2147483648)
  have e0 : (0 : Int32) = Int32.ofInt 0 := rfl
  obtain ⟨ty, kA, comp, hty, hA1, hA2, hA3, hfit⟩ : ∃ (ty : FieldType) (kA : Class) (comp : ClassId), aTys[kd]? = some ty ∧ K.s.vm.classes[w.aC kd]? = some kA ∧ kA.kind = .array comp ty ∧ ((refKind ty != refKind ty) || (!refKind ty && ty != ty)) = false ∧
      ∀ (T : State), T.heap = H → ∀ (vm₁ : Vm), K.s.vm.Alike vm₁ → ∀ i : Nat, i < len.toNat → fits ty (g0 (sp.toNat + i)) = true ∧ (T.setVm vm₁).takes comp (g0 (sp.toNat + i)) := by
    rcases hkd with rfl | rfl
    · obtain ⟨kA, comp, h1, h2, -⟩ := C.wok.2.1 0 _ rfl
      refine ⟨_, kA, comp, rfl, h1, h2, by decide, fun T hT vm₁ hal i hi => ?_⟩
      rcases hel i hi with ⟨-, z, hz⟩ | ⟨h4, -⟩
      · rw [hz]; exact ⟨rfl, trivial⟩
      · omega
    · obtain ⟨kA, comp, h1, h2, h3, h4, h5⟩ := C.wok.2.1 4 _ rfl
      refine ⟨_, kA, comp, rfl, h1, h2, by decide, fun T hT vm₁ hal i hi => ?_⟩
      rcases hel i hi with ⟨h4, -⟩ | ⟨-, hz | ⟨y, c, hz, hy, hok⟩⟩
      · omega
      · rw [hz]; exact ⟨rfl, trivial⟩
      · rw [hz]; exact ⟨rfl, okE_takes C R hy hok (h4 _ rfl) hT hal⟩
  intro T hT X
  have hsz : ls.size = K.c.maxLocals := by rw [hL.size, hL0, C.2.2.1]
  obtain ⟨vm', X', step⟩ := X.arraycopy C.1 C.ownC (C.hts _ q) (C.hts _ q470) (C.hts _ q469) (C.hts _ q43) (src := a0) (dst := a) (cs := cs) (cd := cd) (srcPos := Int32.ofInt sp) (destPos := Int32.ofInt dp) (n := Int32.ofInt len) (by rw [hT]; exact q1) (by rw [hT]; exact p1)
    (fun _ x => by rw [e2] at x; cases x) (fun _ x => by rw [f2] at x; cases x) (by rw [e2]; exact fun x => by cases x) (by rw [f2]; exact fun x => by cases x) (by rw [e1]; exact hA1) (by rw [f1]; exact hA1) hA2 hA2 hA3
    (by rw [e0, oi_lt ⟨by omega, by omega, by omega, by omega⟩]; omega) (by rw [e0, oi_lt ⟨by omega, by omega, by omega, by omega⟩]; omega) (by rw [e0, oi_lt ⟨by omega, by omega, by omega, by omega⟩]; omega)
    (by rw [tS, tL, e3]; show ¬ sp + len > (N0 : Int); omega) (by rw [tD, tL, f3]; show ¬ dp + len > (N1 : Int); omega)
    (fun vm₁ hal i hi => by
      rw [cL] at hi
      have e : cs.slots.getD ((Int32.ofInt sp).toNatClampNeg + i) .null = g0 (sp.toNat + i) := by
        rw [Array.getD_eq_getD_getElem?, cS, e4 (sp.toNat + i) (by show sp.toNat + i < N0; omega)]
        rfl
      rw [e]
      exact hfit T hT vm₁ hal i hi)
    (g := F0 K.m pc ls (jI len :: jI dp :: .ref a :: jI sp :: .ref a0 :: st)) rfl hsz (rest := st) rfl (by rw [C.2.1]; exact hd) (by rw [C.room]; exact hR.1) (by rw [C.room]; have hw : nativeFrameWords "java/lang/System" "arraycopy" 5 ≤ 29 := (by decide); show 2 * 0 + _ + _ ≤ lo; omega)
  have hlen : (cs.stretch sp.toNat len.toNat).length = len.toNat := by simp [Cell.stretch]
  have hcop : copied cs cd (Int32.ofInt sp) (Int32.ofInt dp) (Int32.ofInt len) = cd.storeRun dp.toNat (cs.stretch sp.toNat len.toNat) := by rw [← cS, ← cD, ← cL]
  rw [hcop] at X' step
  obtain ⟨z1, z2, z3, z4, z5⟩ := Cell.storeRun_facts cd dp.toNat (cs.stretch sp.toNat len.toNat)
  have hat : cAt w (.inr (kd, N1, cpV g0 g1 sp.toNat dp.toNat len.toNat)) (cd.storeRun dp.toNat (cs.stretch sp.toNat len.toNat)) := by
    refine ⟨z1.trans f1, z2.trans f2, z3.trans f3, fun j hj => ?_⟩
    have hj' : j < N1 := hj
    rw [Cell.storeRun_get _ _ _ _ (by rw [hlen, f3]; show dp.toNat + len.toNat ≤ N1; omega), hlen]
    by_cases hc : dp.toNat ≤ j ∧ j < dp.toNat + len.toNat
    · rw [if_pos hc]
      have : (cpV g0 g1 sp.toNat dp.toNat len.toNat) j = g0 (sp.toNat + (j - dp.toNat)) := if_pos hc
      show _ = some (cpV g0 g1 sp.toNat dp.toNat len.toNat j)
      rw [this]
      unfold Cell.stretch
      rw [List.getElem?_map, List.getElem?_range (by omega)]
      show some (cs.slots.getD _ _) = _
      rw [Array.getD_eq_getD_getElem?, e4 (sp.toNat + (j - dp.toNat)) (by show _ < N0; omega)]
      rfl
    · rw [if_neg hc, f4 j hj]
      have : (cpV g0 g1 sp.toNat dp.toNat len.toNat) j = g1 j := if_neg hc
      show _ = some (cpV g0 g1 sp.toNat dp.toNat len.toNat j)
      rw [this]
  have hlt : a < H.size := (Array.getElem?_eq_some_iff.mp p1).1
  have hheap : ((T.setVm vm').setCell a (cd.storeRun dp.toNat (cs.stretch sp.toNat len.toNat))).heap = H.setIfInBounds a (cd.storeRun dp.toNat (cs.stretch sp.toNat len.toNat)) := by rw [← hT]; rfl
  obtain ⟨t, a1, b1⟩ := kk (hU h a (.inr (kd, N1, cpV g0 g1 sp.toNat dp.toNat len.toNat))) ⟨rfl, by simp [hU], fun b d eb hb => by simpa [hU, hb] using eb⟩ _ _ ls
    (R.put ha (H' := H.setIfInBounds a (cd.storeRun dp.toNat (cs.stretch sp.toNat len.toNat))) (by simp [Array.getElem?_setIfInBounds, hlt]) (by simp) (fun x hx => by simp [Array.getElem?_setIfInBounds, Ne.symm hx]) hat (z5.trans (pm ha)))
    ⟨by simpa using hl.1, fun x hx => (List.mem_append.mp hx).elim (hl.2 x) (fun y => by
      obtain ⟨z, -, hz⟩ := List.mem_map.mp y
      rw [← hz]
      exact ha)⟩ hL _ hheap X'
  exact ⟨t, step t a1, b1⟩
/-- getClass() of an array of Objects -/
theorem k_getClass {idx a N : Nat} {g : Nat → Value} (C : Cx w K own cc nL ret nm fr lo mc ms) (hL0 : L.length = nL) (q : Cond.methodLink own idx ⟨"java/lang/Object", "getClass", "()Ljava/lang/Class;"⟩ ∈ lw_all) (hd : decode cc pc = .ok (.invokevirtual idx, 3)) (hh : h.2 a = some (.inr (4, N, g))) (hR : 1 ≤ fr ∧ (st.map fun v => v.category).sum + 14 ≤ lo) (kk : Wk w K h n k (pc + 3) L (.ref (w.ad 6) :: st)) : Wk w K h n k pc L (.ref a :: st) := by
  intro H locs ls R hl hL
  obtain ⟨⟨cell, q1, ⟨e1, e2, e3, e4⟩, -⟩, -⟩ := R.2.2.2 a _ hh
  obtain ⟨kA, comp, h1, h2, h3, -⟩ := C.wok.2.1 4 _ rfl
  exact va_getC (C := "[Ljava/lang/Object;") C.1 C.2.1 (by rw [C.2.2.1, ← hL0]; exact hL.size.symm) C.ownC (C.hts _ q) (va_Nw.use rfl (C.nbw q1688 rfl)) (C.hts _ q1687) (C.hts _ q518) (C.hts _ q546) C.wok.2.2.2.2.2.2.2.2.2.2.2.1 ⟨cell, q1, by rw [e2]; rfl, by rw [e1]; exact h3⟩ (by rw [C.room]; exact hR.1) (by rw [C.room]; exact hR.2) hd (kk H locs ls R hl hL)
theorem k_ldcM {idx : Nat} (C : Cx w K own cc nL ret nm fr lo mc ms) (q : Cond.classLink own idx "[Ljava/lang/Object;" ∈ lw_all) (hd : decode cc pc = .ok (.ldc idx, 2)) (kk : Wk w K h n k (pc + 2) L (.ref (w.ad 6) :: st)) : Wk w K h n k pc L st := by
  intro H locs ls R hl hL
  exact va_ldcM C.1 C.2.1 C.ownC (C.hts _ q) C.wok.2.2.2.2.2.2.2.2.2.2.2.1 hd (kk H locs ls R hl hL)
theorem k_ldc {idx : Nat} {z : Int} {v : Int32} (C : Cx w K own cc nL ret nm fr lo mc ms) (q : Cond.constant own idx v ∈ lw_all) (hv : v = Int32.ofInt z) (hd : decode cc pc = .ok (.ldc idx, 2)) (kk : Wk w K h n k (pc + 2) L (jI z :: st)) : Wk w K h n k pc L st := by
  intro H locs ls R hl hL
  subst hv
  exact lv_ldc C.1 C.2.1 C.ownC (C.hts _ q) hd (kk H locs ls R hl hL)
theorem k_ldcw {idx : Nat} {z : Int} {v : Int32} (C : Cx w K own cc nL ret nm fr lo mc ms) (q : Cond.constant own idx v ∈ lw_all) (hv : v = Int32.ofInt z) (hd : decode cc pc = .ok (.ldc_w idx, 3)) (kk : Wk w K h n k (pc + 3) L (jI z :: st)) : Wk w K h n k pc L st := by
  intro H locs ls R hl hL
  subst hv
  exact lv_ldcw C.1 C.2.1 C.ownC (C.hts _ q) hd (kk H locs ls R hl hL)
/-- clone() of an array of ints -/
theorem k_cloneI {idx a N : Nat} {f : Int → Int} (C : Cx w K own cc nL ret nm fr lo mc ms) (hL0 : L.length = nL) (q : Cond.methodLink own idx ⟨"[I", "clone", "()Ljava/lang/Object;"⟩ ∈ lw_all) (hd : decode cc pc = .ok (.invokevirtual idx, 3)) (hh : h.2 a = some (aI 0 N f)) (hR : 1 ≤ fr ∧ (st.map fun v => v.category).sum + 14 ≤ lo) (hm : n + 1 ≤ mc ∧ k + N ≤ ms)
    (kk : ∀ (b : Nat) (h' : Hp), New w h h' b (aI 0 N f) → Wk w K h' (n + 1) (k + N) (pc + 3) L (.ref b :: st)) : Wk w K h n k pc L (.ref a :: st) := by
  intro H locs ls R hl hL
  obtain ⟨⟨cell, q1, ⟨e1, e2, e3, e4⟩, -⟩, -⟩ := R.2.2.2 a _ hh
  obtain ⟨kA, comp, h1, h2, h3, -⟩ := C.wok.2.1 0 _ rfl
  obtain ⟨c0, t0', f1, f2, f3⟩ := Cond.castable_spec (va_Nw.use (A := K.args) rfl (C.nbw q1420 rfl))
  have hc0 : c0 = w.aC 0 := Option.some.inj (f1.symm.trans h3)
  have hsz : cell.slots.size = N := e3
  intro T hT X
  have hcellT : T.heap[a]? = some cell := by rw [hT]; exact q1
  obtain ⟨kA', hkA', heA⟩ := X.warmed.alike.2.2 _ _ h1
  have hkindA : kA'.kind = .array comp .int := by rw [heA]; exact h2
  obtain ⟨vm', X', sg⟩ := X.cloneArray C.1 C.ownC (C.hts _ q) (C.hts _ q1416) (C.hts _ q1417) (C.hts _ q1418) (C.hts _ q1419) (a := a) (cell := cell) hcellT (fun k x => by rw [e2] at x; cases x) (by rw [e2]; exact fun x => by cases x) (by rw [e1]; exact h3) f2 (by rw [e1, ← hc0]; exact f3)
    (fun i v hv => by
      have hi : i < N := by rw [← hsz]; exact (Array.getElem?_eq_some_iff.mp hv).1
      have hv' : v = jI (f (i : Int)) := Option.some.inj (hv.symm.trans (e4 i hi))
      rw [e1, hv']
      have hk' : T.vm.classes[w.aC 0]? = some kA' := hkA'
      simp [State.fitsSlot, State.slotType?, hk', hkindA, jI, fits])
    (g := F0 K.m pc ls (.ref a :: st)) rfl (by rw [hL.size, hL0, C.2.2.1]) rfl (by rw [C.2.1]; exact hd) (by rw [C.room]; exact hR.1) (by rw [C.room]; show 2 * 0 + _ + 14 ≤ lo; omega) (by rw [C.room]; exact hm.1) (by rw [C.room, hsz]; exact hm.2) (hloader := by rw [e1]; exact Vm.clonesLoader_of_array h1 h2)
  rw [hsz] at X'
  have hz1 : (H.push ({ cls := cell.cls, slots := cell.slots } : Cell)).size = h.1 + 1 := by rw [Array.size_push, R.1]
  obtain ⟨t, b1, b2⟩ := kk h.1 (hN h (aI 0 N f)) (new_hN R) (H.push ({ cls := cell.cls, slots := cell.slots } : Cell)) locs ls (R.new (cell := ({ cls := cell.cls, slots := cell.slots } : Cell)) (by rw [R.1, Array.getElem?_push_size]) hz1 (fun q hq => by rw [R.1] at hq; rw [Array.getElem?_push, if_neg (Nat.ne_of_lt hq)]) ⟨e1, rfl, e3, e4⟩ rfl) (hl.new (by rw [Array.size_push]; omega)) hL _ (by rw [← hT]; rfl) X'
  refine ⟨t, sg t ?_, b2⟩
  have hr : T.heap.size = h.1 := by rw [hT]; exact R.1.symm
  rw [hr]
  exact b1
end NAT
