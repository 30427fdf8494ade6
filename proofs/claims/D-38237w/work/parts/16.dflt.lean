/-! ===== calls that land in an interface's default ===== -/
set_option maxRecDepth 100000
section DFL
variable {p : Program} {l : Launch} {e : Env} {R : Room} {s : State} {m : MethodId} {args : Array Value} {below : List Frame} {meth : Method} {c : Code} {H : Heap} {locs : List Loc} {cells slots : Nat}
theorem df_callV {T : State} {locs : List Loc} {cells slots : Nat} (X : Stand p l e R s m args below meth c T locs cells slots) (hexec : p.tables.exec = Jvm.exec) {own C owner : String} {index : Nat} {x y : MethodName}
    (hown : s.vm.findClass own = some m.cls) (hlink : (Cond.methodLink own index x).before args s = true) (hsame : (Cond.sameMethod x.cls owner x.name x.desc).before args s = true)
    (hd0 : va_Decl s ⟨owner, x.name, x.desc⟩) (howner : owner ≠ "java/lang/invoke/MethodHandle" ∧ owner ≠ "java/lang/invoke/VarHandle")
    (hsel : (Cond.landsInDefault C x y).before args s = true) (hinst : (Cond.instanceMethod y).before args s = true)
    {W : Nat} {Pre : Pt → Array Value → Prop} {Post : Pt → Array Value → Option Value → Pt → Prop} {PostX : Pt → Array Value → Addr → Pt → Prop} (hK : vx_Back l R p e below s args y 3 W Pre Post PostX)
    {b : Addr} {cellB : Cell} (hcell : T.heap[b]? = some cellB) (hobj : cellB.vm.isStatics = false) (hcls : s.vm.findClass C = some cellB.cls)
    {g : JFrame} (hg : g.method = m) (hsize : g.locals.size = c.maxLocals) {argsL rest : List Value} (hlen : ∀ sig, parseMethodDescriptor x.desc = some sig → argsL.length = sig.parameters.length)
    (hstack : g.stack = argsL.reverse ++ .ref b :: rest) (hW : 2 * g.monitorRoom + (rest.map fun v => v.category).sum ≤ W) (hdg : decode c.code g.pc = .ok (.invokevirtual index, 3))
    (hpre : ∀ vm₁, s.WarmedH vm₁ → Pre ⟨T.setVm vm₁, locs, cells, slots⟩ (Value.ref b :: argsL).toArray) :
    (∃ (v : Option Value) (vm₁ : Vm) (B : Pt), s.WarmedH vm₁ ∧ Stand p l e R s m args below meth c B.U B.locs B.cells B.slots ∧ Post ⟨T.setVm vm₁, locs, cells, slots⟩ (Value.ref b :: argsL).toArray v B ∧
      ∀ target, Steps p.tables e below (B.U.setTop { g with pc := g.pc + 3, stack := v.toList ++ rest }) target → Steps p.tables e below (T.setTop g) target) ∨
    (∃ (q : Addr) (vm₁ : Vm) (B : Pt), s.WarmedH vm₁ ∧ Stand p l e R s m args below meth c B.U B.locs B.cells B.slots ∧ PostX ⟨T.setVm vm₁, locs, cells, slots⟩ (Value.ref b :: argsL).toArray q B ∧
      Steps p.tables e below (T.setTop g) ((B.U.setTop { g with stack := rest }).pushFrame (.throwing q))) := by
  obtain ⟨r0, r, hn, hrm, hstR, hsigR⟩ := hd0
  obtain ⟨cn, ck, r1, hcn, hck, hni, hf, hn1⟩ := Cond.sameMethod_found hsame
  cases hn.symm.trans hn1
  obtain ⟨mk, methM, hnamed, hmethM, -, habM⟩ := Cond.instanceMethod_spec hinst
  obtain ⟨c2, r2, m2, rm, q1, q2, q3, q5, q4, ⟨kP, hkP, hkPi⟩, -, q7⟩ := Cond.landsInDefault_spec hsel
  cases hcls.symm.trans q1
  cases hf.symm.trans q2
  cases hnamed.symm.trans q3
  cases hrm.symm.trans q5
  have hselP : selectMethod e.platform s.vm cellB.cls r0 = .method mk := by rw [Launch.admits_selectMethod X.admits]; exact q4
  obtain ⟨vm₁, X₁, hstep₁⟩ := X.invokevirtualUpD hexec hown hlink hsame howner hn hrm hstR (a := b) (cell := cellB) hcell
    (fun z h => by rw [h] at hobj; cases hobj) hselP hmethM habM hkP hkPi q7 (g := g) hg (argsL := argsL) (rest := rest) (hlen _ hsigR) hstack hdg
  rcases hK m meth c ⟨T.setVm vm₁, locs, cells, slots⟩ { g with stack := rest } (.invokevirtual index) mk (Value.ref b :: argsL).toArray X₁ hg hsize hdg hW (X₁.named hnamed) (hpre vm₁ X₁.warmed) with ⟨v, B, X', hpost, hsteps⟩ | ⟨q, B, X', hpost, hsteps⟩
  · exact Or.inl ⟨v, vm₁, B, X₁.warmed, X', hpost, fun target h => hstep₁ _ fun acts => by rw [doInvoke_state]; exact hsteps.trans h⟩
  · exact Or.inr ⟨q, vm₁, B, X₁.warmed, X', hpost, hstep₁ _ fun acts => by rw [doInvoke_state]; exact hsteps⟩
end DFL
theorem c_count {w : Wd} {h : Hp} {o : Nat} : Ct w yX15_count (ws_ yX15_count cX15_count 1 (some .int)) 0 0 0 0 [.ref o] h (fun v h' => v = some (jI 1) ∧ h' = h) NoX := by
  refine Ct.of (by decide) [some (.ref o)] rfl (Nat.le_of_ble_eq_true rfl) (fun K C E N0 => ?_)
  refine k_iconst C dX15_count_0 ?_
  exact k_iret C E dX15_count_1 (by omega) ⟨rfl, rfl⟩
/-- count() of a machine or a tag -/
theorem k_count {w : Wd} {K : KT} {nm : String} {cc : ByteArray} {nL : Nat} {ret : Option FieldType} {fr lo mc ms : Nat} {h : Hp} {n k pc : Nat} {L : List (Option Value)} {rest : List Value} {ci bb idx : Nat} {fs : List Value}
    (hci : (ci = 3 ∧ idx = 191) ∨ (ci = 9 ∧ idx = 399)) (C : Cx w K "Haltingale" cc nL ret nm fr lo mc ms) (hL0 : L.length = nL) (hd : decode cc pc = .ok (.invokevirtual idx, 3)) (hh : h.2 bb = some (.inl (ci, fs))) (hcat : (rest.map fun v => v.category).sum ≤ 8) (hR : 1 ≤ fr ∧ 40 ≤ lo) (hm : n ≤ mc ∧ k ≤ ms)
    (kk : Wk w K h n k (pc + 3) L (jI 1 :: rest)) : Wk w K h n k pc L (.ref bb :: rest) := by
  have key : ∀ d ∈ dfAll, idx = d.1 → (∃ r : vw_C, clAll[ci]? = some r ∧ r.1 = d.2) → Wk w K h n k pc L (.ref bb :: rest) := by
    intro d hdm hidx ⟨r, hr, hrc⟩
    obtain ⟨w1, w2, w3⟩ := And.left C.wok.2.2.2.2.2.2.2.2.2.2.2.2 d hdm
    have f1 := word_at (a' := K.args) (State.WarmedH.refl K.s) (Or.inl (by first | rfl | simp [Cond.onTables, Cond.keeps, Cond.steady])) w1
    have f2 := word_at (a' := K.args) (State.WarmedH.refl K.s) (Or.inl (by first | rfl | simp [Cond.onTables, Cond.keeps, Cond.steady])) w2
    have f3 : (Cond.landsInDefault d.2 ⟨d.2, "count", "()I"⟩ ⟨"Haltingale$Counted", "count", "()I"⟩).before K.args K.s = true := w3
    refine Wk.run3 (mc' := 0) (ms' := 0) (A' := #[.ref bb]) (Post := fun v h' => v = some (jI 1) ∧ h' = h) (PostX := NoX) (rest := rest) (fun H locs ls R hl hL => ?_) (fun v h' e => by obtain ⟨rfl, rfl⟩ := e; exact kk) (fun E h' e => e.elim)
    have hp := preV (A := []) C R hh hr
    have hG : GoodIn lw_all (ws_ yX15_count cX15_count 1 (some .int)) := lw_meth q182
    have hK : vx_Back K.l K.R K.p K.e K.below K.s K.args yX15_count 3 8 (PreOf K.R 0 0 _) (PostOf (Qp w (fun v h' => v = some (jI 1) ∧ h' = h)) 0 0 (Fr w)) (vx_Post (Xp w NoX) 0 0 (Fr w)) :=
      vx_back (bytes := cX15_count) (maxL := 1) (ret := some .int) (c_count (w := w) (h := h) (o := bb) K.l C.2.2.2.2.2.2.2.2.1) hp.1 rfl rfl (by rw [C.room]; exact hR.1) (by rw [C.room]; exact Nat.le_trans (by decide) hR.2) (pay_in C.hts hG) List.mem_cons_self (fun a' U hW => word_at hW (Or.inl (by first | rfl | simp [Cond.onTables, Cond.keeps, Cond.steady])) (C.hts _ q1652))
    obtain ⟨-, ⟨cellB, hcB, hoB, hclB⟩, hPc⟩ := hp
    intro T hT X
    rcases df_callV X C.1 (C := d.2) (owner := "Haltingale$Counted") (index := idx) (x := ⟨d.2, "count", "()I"⟩) (y := yX15_count) C.ownC (by rw [hidx]; exact f1) f2 (va_Decl.abs (C.nbw q178 rfl)) (by decide) f3 (C.hts _ q180) hK (by rw [hT]; exact hcB) hoB (by rw [← hrc]; exact hclB) rfl (by rw [C.2.2.1, ← hL0]; exact hL.size) (g := F0 K.m pc ls (.ref bb :: rest)) (argsL := []) (rest := rest) (fun sig e => by cases (show parseMethodDescriptor "()I" = some sig from e); rfl) rfl (by simpa using hcat) (by rw [C.2.1]; exact hd)
      (fun vm₁ hW₁ => ⟨by rw [C.room]; exact hm.1, by rw [C.room]; exact hm.2, hPc (T.setVm vm₁) hT hW₁⟩) with ⟨v, vm₁, ⟨U', l2, c2, s2⟩, hW₁, X', ⟨g', mk, t, L, e1, e2, hq, h1, hL, h2, h3⟩, st⟩ | ⟨q, vm₁, ⟨U', l2, c2, s2⟩, hW₁, X', ⟨g', mk, t, L, E, ce, e1, e2, hq, hce, hcv, hcl, h1, hL, h2, h3⟩, st⟩
    · dsimp only [Pt.U, Pt.locs, Pt.cells, Pt.slots] at X' e1 e2 h1 h2 h3 st
      subst h1; subst h2; subst h3
      exact Or.inl ⟨v, (T.setVm vm₁).calling g' mk #[.ref bb], t, U', L, hT, X', hL, e1, e2, hq, st⟩
    · dsimp only [Pt.U, Pt.locs, Pt.cells, Pt.slots] at X' e1 e2 h1 h2 h3 st hcl
      subst h1; subst h2; subst h3
      exact Or.inr ⟨q, (T.setVm vm₁).calling g' mk #[.ref bb], t, U', L, E, ce, hT, X', hL, e1, e2, hq, hce, hcv, vx_cls hW₁ hcl, st⟩
  rcases hci with ⟨rfl, rfl⟩ | ⟨rfl, rfl⟩
  · exact key (191, "Haltingale$Machine") (by decide) rfl ⟨_, rfl, rfl⟩
  · exact key (399, "Haltingale$Tag") (by decide) rfl ⟨_, rfl, rfl⟩
