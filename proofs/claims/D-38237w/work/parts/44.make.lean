/-! ===== what changes the component: the frame; machine, tag, decide ===== -/
set_option maxRecDepth 100000
/-- all that was known stays known, but at the places that P tells -/
def UpdP (h h' : Hp) (P : Nat → Prop) : Prop := h.1 ≤ h'.1 ∧ ∀ (q : Nat) (c : Cel), h.2 q = some c → ¬ P q → h'.2 q = some c
theorem Ext.updP {h h' : Hp} (E : Ext h h') (P : Nat → Prop) : UpdP h h' P := ⟨E.1, fun q c e _ => E.2 q c e⟩
theorem Upd.updP {h h' : Hp} {S : List Nat} {P : Nat → Prop} (U : Upd h h' S) (hS : ∀ q ∈ S, P q) : UpdP h h' P := ⟨U.1, fun q c e hq => U.2 q c e (fun z => hq (hS q z))⟩
theorem UpdP.trans {a b c : Hp} {P Q : Nat → Prop} (h1 : UpdP a b P) (h2 : UpdP b c Q) (h : ∀ q, Q q → P q ∨ a.2 q = none) : UpdP a c P := ⟨Nat.le_trans h1.1 h2.1, fun q d e hq => h2.2 q d (h1.2 q d e hq) (fun z => by
  rcases h q z with y | y
  · exact hq y
  · rw [e] at y; cases y)⟩
/-- the component's own places -/
def ownX (X : XL) (n : Nat) (q : Nat) : Prop := q = X.lm ∨ (0 < X.cm ∧ q = X.am) ∨ q = X.lt ∨ (0 < X.ct ∧ q = X.at) ∨ q = X.g ∨ ∃ i, i < n ∧ (q = (X.A i).1 ∨ q = (X.A i).2.2.1 ∨ q = (X.A i).2.2.2)
/-- they differ -/
def sepX (X : XL) (n k : Nat) : Prop := (X.cm = capOf n ∧ X.ct = capOf k) ∧ X.lm ≠ X.lt ∧ (0 < X.cm → 0 < X.ct → X.am ≠ X.at) ∧ (∀ i, i < n → (X.A i).2.2.1 ≠ X.lm ∧ (X.A i).2.2.1 ≠ X.lt ∧ (0 < X.cm → (X.A i).2.2.2 ≠ X.am) ∧ (0 < X.ct → (X.A i).2.2.2 ≠ X.at)) ∧ ∀ i j, i < n → j < n → i ≠ j → (X.A i).1 ≠ (X.A j).1 ∧ (X.A i).2.2.2 ≠ (X.A j).2.2.2
/-- the component has gone on from σ to σ' -/
def stepX (w : Wd) (h h' : Hp) (x : Nat) (X : XL) (σ σ' : Sg) : Prop := ∃ X' : XL, isX w h' x X' σ' ∧ sepX X' σ'.n σ'.k ∧ UpdP h h' (ownX X σ.n) ∧ ∀ q, ownX X' σ'.n q → ownX X σ.n q ∨ h.2 q = none
def upN {α : Type} (f : Nat → α) (i : Nat) (a : α) : Nat → α := fun j => if j = i then a else f j
theorem upN_at {α : Type} {f : Nat → α} {i : Nat} {a : α} : upN f i a i = a := if_pos rfl
theorem upN_ne {α : Type} {f : Nat → α} {i j : Nat} {a : α} (h : j ≠ i) : upN f i a j = f j := if_neg h
/-- one machine more -/
def addM (σ : Sg) (m : Mch) : Sg := (σ.n + 1, upN σ.ms σ.n m, σ.k, σ.tg, σ.tk, σ.rf, σ.bk)
/-- a machine put anew -/
def putM (σ : Sg) (i : Nat) (m : Mch) : Sg := (σ.n, upN σ.ms i m, σ.k, σ.tg, σ.tk, σ.rf, σ.bk)
/-- a list's cell and array go; what a table holds stays, if its list and its array do -/
theorem isTb.keep {w : Wd} {h h' : Hp} {t lst ar : Nat} {T : Tb} {S : List Nat} (U : Upd h h' S) (h1 : lst ∉ S) (h2 : ar ∉ S) (hS : ∀ q ∈ S, h.2 q = none ∨ ∃ c : Cel, h.2 q = some c ∧ ((∃ x, c = .inl (14, x)) ∨ (∃ n x, c = .inr (4, n, x)) ∨ (∃ x, c = .inl (3, x)) ∨ (∃ x, c = .inl (1, x)))) (H : isTb w h t lst ar T) : isTb w h' t lst ar T := by
  have key : ∀ (q : Nat) (d : Cel), h.2 q = some d → (∀ x : List Value, d ≠ .inl (14, x)) → (∀ (n : Nat) (x : Nat → Value), d ≠ .inr (4, n, x)) → (∀ x : List Value, d ≠ .inl (3, x)) → (∀ x : List Value, d ≠ .inl (1, x)) → h'.2 q = some d := fun q d e k1 k2 k3 k4 => U.2 q d e (fun hq => by
    rcases hS q hq with e2 | ⟨c, e2, ⟨x, e3⟩ | ⟨n, x, e3⟩ | ⟨x, e3⟩ | ⟨x, e3⟩⟩
    · rw [e] at e2; cases e2
    · rw [e] at e2; exact k1 x ((Option.some.inj e2).trans e3)
    · rw [e] at e2; exact k2 n x ((Option.some.inj e2).trans e3)
    · rw [e] at e2; exact k3 x ((Option.some.inj e2).trans e3)
    · rw [e] at e2; exact k4 x ((Option.some.inj e2).trans e3))
  obtain ⟨g1, f, ⟨g2, g3, g4⟩, g5⟩ := H
  refine ⟨key _ _ g1 (fun x e => by cases e) (fun n x e => by cases e) (fun x e => by cases e) (fun x e => by cases e), f, ⟨U.2 _ _ g2 h1, U.2 _ _ g3 h2, g4⟩, fun k k0 k1 => ?_⟩
  obtain ⟨o, e1, e2⟩ := g5 k k0 k1
  refine ⟨o, e1, ?_⟩
  cases hr : T.2 k with
  | none =>
    rw [hr] at e2
    exact key _ _ e2 (fun x e => by cases e) (fun n x e => by cases e) (fun x e => by cases e) (fun x e => by cases e)
  | some r =>
    rw [hr] at e2
    obtain ⟨b, e3, e4⟩ := e2
    exact ⟨b, key _ _ e3 (fun x e => by cases e) (fun n x e => by cases e) (fun x e => by cases e) (fun x e => by cases e), key _ _ e4 (fun x e => by cases e) (fun n x e => by cases e) (fun x e => by cases e) (fun x e => by cases e)⟩
theorem isMc.keep {w : Wd} {h h' : Hp} {a t lst ar : Nat} {m : Mch} {S : List Nat} (U : Upd h h' S) (h0 : a ∉ S) (h1 : lst ∉ S) (h2 : ar ∉ S) (hS : ∀ q ∈ S, h.2 q = none ∨ ∃ c : Cel, h.2 q = some c ∧ ((∃ x, c = .inl (14, x)) ∨ (∃ n x, c = .inr (4, n, x)) ∨ (∃ x, c = .inl (3, x)) ∨ (∃ x, c = .inl (1, x)))) (H : isMc w h a t lst ar m) : isMc w h' a t lst ar m := by
  obtain ⟨⟨k, e1, e2⟩, G⟩ := H
  refine ⟨⟨k, U.2 _ _ e1 h0, U.2 _ _ e2 (fun hq => ?_)⟩, G.keep U h1 h2 hS⟩
  rcases hS k hq with e3 | ⟨c, e3, ⟨x, e4⟩ | ⟨n, x, e4⟩ | ⟨x, e4⟩ | ⟨x, e4⟩⟩
  · rw [show h.2 k = _ from e2] at e3; cases e3
  all_goals
    rw [show h.2 k = _ from e2] at e3
    rw [e4] at e3
    cases e3
theorem isTg.keep {h h' : Hp} {a wa : Nat} {g : Tg} {S : List Nat} (U : Upd h h' S) (hS : ∀ q ∈ S, h.2 q = none ∨ ∃ c : Cel, h.2 q = some c ∧ ((∃ x, c = .inl (14, x)) ∨ (∃ n x, c = .inr (4, n, x)) ∨ (∃ x, c = .inl (3, x)) ∨ (∃ x, c = .inl (1, x)))) (H : isTg h a wa g) : isTg h' a wa g := by
  obtain ⟨e1, f, e2, e3⟩ := H
  refine ⟨U.2 _ _ e1 (fun hq => ?_), f, U.2 _ _ e2 (fun hq => ?_), e3⟩
  · rcases hS a hq with e4 | ⟨c, e4, ⟨x, e5⟩ | ⟨n, x, e5⟩ | ⟨x, e5⟩ | ⟨x, e5⟩⟩
    · rw [e1] at e4; cases e4
    all_goals
      rw [e1, e5] at e4
      cases e4
  · rcases hS wa hq with e4 | ⟨c, e4, ⟨x, e5⟩ | ⟨n, x, e5⟩ | ⟨x, e5⟩ | ⟨x, e5⟩⟩
    · rw [e2] at e4; cases e4
    all_goals
      rw [e2, e5] at e4
      cases e4
theorem ne_some {h : Hp} {a b : Nat} {c : Cel} (h1 : h.2 a = none) (h2 : h.2 b = some c) : a ≠ b := fun e => by rw [e, h2] at h1; cases h1
/-- a machine was put at the end of the list -/
theorem add_step {w : Wd} {h hM h' : Hp} {x a t lst ar q : Nat} {X : XL} {σ : Sg} {m : Mch} {g' : Int → Option Nat} (H : isX w h x X σ) (hsep : sepX X σ.n σ.k) (E : Ext h hM) (Mn : isMc w hM a t lst ar m) (a0 : h.2 a = none) (lst0 : h.2 lst = none) (ar0 : h.2 ar = none)
    (L : isAL w h' X.lm q (σ.n + 1) (ncp σ.n X.cm) g') (hg : ∀ i : Nat, i < σ.n → g' i = some (X.A i).1) (gn : g' (σ.n : Int) = some a) (U : (σ.n < X.cm ∧ q = X.am ∧ Upd hM h' [X.lm, X.am]) ∨ (σ.n = X.cm ∧ hM.2 q = none ∧ Upd hM h' [X.lm])) : stepX w h h' x X σ (addM σ m) := by
  obtain ⟨⟨s1, s2⟩, s3, s4, s5, s6⟩ := hsep
  obtain ⟨hX, ⟨f, A, F⟩, ⟨ft, At, Ft⟩, hgt, M, TG⟩ := id H
  have HM := H.ext E
  obtain ⟨hX', ⟨f', A', F'⟩, ⟨ft', At', Ft'⟩, hgt', M', TG'⟩ := id HM
  have lmc := A'.1
  have amc := A'.2.1
  -- one shape of the update
  obtain ⟨S, hU, hS, hq, hSl, hSa⟩ : ∃ S, Upd hM h' S ∧ (∀ y ∈ S, y = X.lm ∨ (0 < X.cm ∧ y = X.am)) ∧ ((0 < X.cm ∧ q = X.am) ∨ hM.2 q = none) ∧ True ∧ True := by
    rcases U with ⟨u1, u2, u3⟩ | ⟨u1, u2, u3⟩
    · exact ⟨_, u3, fun y hy => by
        have hy' : y = X.lm ∨ y = X.am := by simpa using hy
        exact hy'.imp id (fun z => ⟨by omega, z⟩), Or.inl ⟨by omega, u2⟩, trivial, trivial⟩
    · exact ⟨_, u3, fun y hy => Or.inl (by simpa using hy), Or.inr u2, trivial, trivial⟩
  have hcls : ∀ y ∈ S, hM.2 y = none ∨ ∃ c : Cel, hM.2 y = some c ∧ ((∃ x, c = .inl (14, x)) ∨ (∃ n x, c = .inr (4, n, x)) ∨ (∃ x, c = .inl (3, x)) ∨ (∃ x, c = .inl (1, x))) := fun y hy => by
    rcases hS y hy with z | ⟨-, z⟩
    · exact Or.inr ⟨_, by rw [z]; exact lmc, Or.inl ⟨_, rfl⟩⟩
    · exact Or.inr ⟨_, by rw [z]; exact amc, Or.inr (Or.inl ⟨_, _, rfl⟩)⟩
  -- what isn't the list
  have notin : ∀ (y : Nat) (d : Cel), hM.2 y = some d → (∀ v : List Value, d ≠ .inl (14, v)) → (∀ (n : Nat) (v : Nat → Value), d ≠ .inr (4, n, v)) → y ∉ S := fun y d e k1 k2 hy => by
    rcases hS y hy with z | ⟨-, z⟩
    · rw [z, lmc] at e; exact k1 _ (Option.some.inj e).symm
    · rw [z, amc] at e; exact k2 _ _ (Option.some.inj e).symm
  have lm0 := A.1
  have am0 := A.2.1
  have newS : ∀ y : Nat, h.2 y = none → y ∉ S := fun y e hy => by
    rcases hS y hy with z | ⟨-, z⟩
    · rw [z, lm0] at e; cases e
    · rw [z, am0] at e; cases e
  have ltS : X.lt ∉ S := fun hy => by
    rcases hS _ hy with z | ⟨-, z⟩
    · exact s3 z.symm
    · exact ne_cel At'.1 amc ne_ao z
  have atS : X.at ∉ S := fun hy => by
    rcases hS _ hy with z | ⟨z0, z⟩
    · exact ne_cel At'.2.1 lmc ne_oa z
    · by_cases hc : 0 < X.ct
      · exact s4 z0 hc z.symm
      · have e := At'.2.1
        rw [z, amc] at e
        have e2 := (Prod.mk.inj (Prod.mk.inj (Sum.inr.inj (Option.some.inj e))).2).1
        omega
  refine ⟨((X.lm, q, ncp σ.n X.cm), X.2.1, X.g, upN X.A σ.n (a, t, lst, ar), X.B), ⟨?_, ⟨g', L, fun i hi => ?_⟩, ⟨ft', At'.upd hU ltS atS, Ft'⟩, ?_, fun i hi => ?_, fun i hi => ?_⟩, ⟨⟨?_, s2⟩, s3, fun z0 z1 => ?_, fun i hi => ?_, fun i j hi hj hij => ?_⟩, ?_, fun y hy => ?_⟩
  · exact hU.2 _ _ hX' (notin _ _ hX' (fun v e => by cases e) (fun n v e => by cases e))
  · show g' (i : Int) = some (upN X.A σ.n (a, t, lst, ar) i).1
    have hi' : i < σ.n + 1 := hi
    by_cases e : i = σ.n
    · subst e; rw [upN_at]; exact gn
    · rw [upN_ne e]; exact hg i (by omega)
  · exact hU.2 _ _ hgt' (notin _ _ hgt' (fun v e => by cases e) (fun n v e => by cases e))
  · show isMc w h' (upN X.A σ.n (a, t, lst, ar) i).1 (upN X.A σ.n (a, t, lst, ar) i).2.1 (upN X.A σ.n (a, t, lst, ar) i).2.2.1 (upN X.A σ.n (a, t, lst, ar) i).2.2.2 (upN σ.ms σ.n m i)
    have hi' : i < σ.n + 1 := hi
    by_cases e : i = σ.n
    · subst e; rw [upN_at, upN_at]
      exact Mn.keep hU (newS _ a0) (newS _ lst0) (newS _ ar0) hcls
    · rw [upN_ne e, upN_ne e]
      have Mi := M' i (by omega)
      obtain ⟨t1, t2, t3, t4⟩ := s5 i (by omega)
      obtain ⟨⟨k, ek, -⟩, Gi⟩ := id Mi
      obtain ⟨-, fi, Ai, -⟩ := id Gi
      refine Mi.keep hU (notin _ _ ek (fun v e => by cases e) (fun n v e => by cases e)) (fun hy => ?_) (fun hy => ?_) hcls
      · rcases hS _ hy with z | ⟨z0, z⟩
        · exact t1 z
        · exact ne_cel Ai.1 amc ne_ao z
      · rcases hS _ hy with z | ⟨z0, z⟩
        · exact ne_cel Ai.2.1 lmc ne_oa z
        · exact t3 z0 z
  · exact (TG' i hi).keep hU hcls
  · show ncp σ.n X.cm = capOf (σ.n + 1)
    rw [s1]; rfl
  · show q ≠ X.at
    rcases hq with ⟨y0, y1⟩ | y1
    · rw [y1]; exact s4 y0 z1
    · exact ne_some y1 At'.2.1
  · show (upN X.A σ.n (a, t, lst, ar) i).2.2.1 ≠ X.lm ∧ (upN X.A σ.n (a, t, lst, ar) i).2.2.1 ≠ X.lt ∧ (0 < ncp σ.n X.cm → (upN X.A σ.n (a, t, lst, ar) i).2.2.2 ≠ q) ∧ (0 < X.ct → (upN X.A σ.n (a, t, lst, ar) i).2.2.2 ≠ X.at)
    have hi' : i < σ.n + 1 := hi
    by_cases e : i = σ.n
    · subst e; rw [upN_at]
      refine ⟨ne_some lst0 lm0, ne_some lst0 At.1, fun _ => ?_, fun _ => ne_some ar0 At.2.1⟩
      rcases hq with ⟨y0, y1⟩ | y1
      · rw [y1]; exact ne_some ar0 am0
      · obtain ⟨-, fi, Ai, -⟩ := Mn.2
        exact (ne_some y1 Ai.2.1).symm
    · rw [upN_ne e]
      obtain ⟨t1, t2, t3, t4⟩ := s5 i (by omega)
      refine ⟨t1, t2, fun _ => ?_, t4⟩
      rcases hq with ⟨y0, y1⟩ | y1
      · rw [y1]; exact t3 y0
      · obtain ⟨-, fi, Ai, -⟩ := (M' i (by omega)).2
        exact (ne_some y1 Ai.2.1).symm
  · show (upN X.A σ.n (a, t, lst, ar) i).1 ≠ (upN X.A σ.n (a, t, lst, ar) j).1 ∧ (upN X.A σ.n (a, t, lst, ar) i).2.2.2 ≠ (upN X.A σ.n (a, t, lst, ar) j).2.2.2
    have hi' : i < σ.n + 1 := hi
    have hj' : j < σ.n + 1 := hj
    have old : ∀ i, i < σ.n → a ≠ (X.A i).1 ∧ ar ≠ (X.A i).2.2.2 := fun i hi => by
      obtain ⟨⟨k, ek, -⟩, -, fi, Ai, -⟩ := M i hi
      exact ⟨ne_some a0 ek, ne_some ar0 Ai.2.1⟩
    by_cases ei : i = σ.n
    · subst ei
      rw [upN_at, upN_ne (Ne.symm hij)]
      exact old j (by omega)
    · by_cases ej : j = σ.n
      · subst ej
        rw [upN_at, upN_ne ei]
        have := old i (by omega)
        exact ⟨this.1.symm, this.2.symm⟩
      · rw [upN_ne ei, upN_ne ej]
        exact s6 i j (by omega) (by omega) hij
  · exact (E.updP _).trans (hU.updP (P := ownX X σ.n) (fun y hy => by
      rcases hS y hy with z | ⟨z0, z⟩
      · exact Or.inl z
      · exact Or.inr (Or.inl ⟨z0, z⟩))) (fun y hy => Or.inl hy)
  · rcases hy with z | ⟨z0, z⟩ | z | z | z | ⟨i, hi, z⟩
    · exact Or.inl (Or.inl z)
    · rcases hq with ⟨y0, y1⟩ | y1
      · exact Or.inl (Or.inr (Or.inl ⟨y0, by rw [z]; exact y1⟩))
      · exact Or.inr (by rw [z]; exact E.old y1)
    · exact Or.inl (Or.inr (Or.inr (Or.inl z)))
    · exact Or.inl (Or.inr (Or.inr (Or.inr (Or.inl z))))
    · exact Or.inl (Or.inr (Or.inr (Or.inr (Or.inr (Or.inl z)))))
    · have hi' : i < σ.n + 1 := hi
      by_cases e : i = σ.n
      · subst e
        have z' : y = (upN X.A σ.n (a, t, lst, ar) σ.n).1 ∨ y = (upN X.A σ.n (a, t, lst, ar) σ.n).2.2.1 ∨ y = (upN X.A σ.n (a, t, lst, ar) σ.n).2.2.2 := z
        rw [upN_at] at z'
        rcases z' with e | e | e <;> rw [e]
        · exact Or.inr a0
        · exact Or.inr lst0
        · exact Or.inr ar0
      · have z' : y = (upN X.A σ.n (a, t, lst, ar) i).1 ∨ y = (upN X.A σ.n (a, t, lst, ar) i).2.2.1 ∨ y = (upN X.A σ.n (a, t, lst, ar) i).2.2.2 := z
        rw [upN_ne e] at z'
        exact Or.inl (Or.inr (Or.inr (Or.inr (Or.inr (Or.inr ⟨i, by omega, z'⟩)))))
/-! ### machine -/
def machK (σ : Sg) (s : Int) : Nat := if 2 ≤ s ∧ s ≤ 4 then (if σ.n < 12 then 0 else 2) else 1
theorem c_machineX {w : Wd} {h : Hp} {x : Nat} {X : XL} {σ : Sg} {s : Int} (H : isX w h x X σ) (hsep : sepX X σ.n σ.k) (hσ : SgOk σ) (hs : i32 s) : Ct w yX1_machine (ws_ yX1_machine cX1_machine 2 (some FieldType.int)) 10 242 8 60 [.ref x, jI s] h (fun v h' => machK σ s = 0 ∧ v = some (jI (σ.n : Nat)) ∧ stepX w h h' x X σ (addM σ ((s.toNat, fun _ => none), none, -1, -1))) (fun E h' => exOf [sIAE, sISE] (machK σ s) E ∧ Ext h h') := by
  obtain ⟨hX, ⟨f, A, F⟩, ⟨ft, At, Ft⟩, hg, M, TG⟩ := id H
  have hn := hσ.1
  have l1 := A.1
  unfold i32 at hs
  unfold machK
  refine Ct.of (by decide) [some (.ref x), some (jI s)] rfl (Nat.le_of_ble_eq_true rfl) (fun K C E N0 => ?_)
  refine k_iload_n C dX1_machine_0 rfl ?_
  refine k_iconst C dX1_machine_1 ?_
  refine k_iconst C dX1_machine_2 ?_
  refine kx_S C rfl ms_X1_170 dX1_machine_3 ((c_mustBeIn (by omega))) rfl rfl (Nat.le_of_ble_eq_true rfl) ⟨(Nat.le_of_ble_eq_true rfl), (Nat.le_of_ble_eq_true rfl)⟩ (by omega) (fun v kk hp_ => ?_) (fun E1 h1 hx => x_pass C E N0 (by omega) ⟨by rw [if_neg hx.1, hx.2.1]; exact ex1, hx.2.2⟩)
  obtain ⟨hin, rfl, rfl⟩ := hp_
  rw [if_pos hin] at E
  refine k_aload_n C dX1_machine_6 rfl ?_
  refine k_get C fg_X1_130 dX1_machine_7 (by assumption) (by rfl) ?_
  refine kx_F C rfl mf_X1_56 dX1_machine_10 ((c_size l1)) (by assumption) rfl rfl (Nat.le_of_ble_eq_true rfl) ⟨(Nat.le_of_ble_eq_true rfl), (Nat.le_of_ble_eq_true rfl)⟩ (by omega) (fun v kk hp_ => ?_) (fun _ _ hx => hx.elim)
  obtain ⟨rfl, rfl⟩ := hp_
  refine k_bipush C dX1_machine_15 (by decide) ?_
  refine k_icmp_ge C dX1_machine_17 (tgt := 24) (by decide) (by omega) (fun g1 => ?_) (fun g2 => ?_)
  · refine k_iconst C dX1_machine_24 ?_
    refine kx_S C rfl ms_X1_176 dX1_machine_25 ((c_checkState (b := false))) rfl rfl (Nat.le_of_ble_eq_true rfl) ⟨(Nat.le_of_ble_eq_true rfl), (Nat.le_of_ble_eq_true rfl)⟩ (by omega) (fun v k1 hp_ => ?_) (fun E1 h1 hx => x_pass C E N0 (by omega) ⟨by rw [if_neg (by omega), hx.2.1]; exact ex2, hx.2.2⟩)
    obtain ⟨e, _, _⟩ := hp_
    cases e
  · rw [if_pos (by omega)] at E
    refine k_iconst C dX1_machine_20 ?_
    refine k_goto C dX1_machine_21 (tgt := 25) (by decide) ?_
    refine kx_S C rfl ms_X1_176 dX1_machine_25 ((c_checkState (b := true))) rfl rfl (Nat.le_of_ble_eq_true rfl) ⟨(Nat.le_of_ble_eq_true rfl), (Nat.le_of_ble_eq_true rfl)⟩ (by omega) (fun v k1 hp_ => ?_) (fun E1 h1 hx => absurd hx.1 (by decide))
    obtain ⟨_, rfl, rfl⟩ := hp_
    obtain ⟨S, hS⟩ : ∃ S : Nat, s = (S : Int) := ⟨s.toNat, by omega⟩
    subst hS
    rw [show ((S : Nat) : Int).toNat = S from rfl] at *
    refine k_aload_n C dX1_machine_28 rfl ?_
    refine k_get C fg_X1_130 dX1_machine_29 (by assumption) (by rfl) ?_
    refine k_new C nw_X1_160 dX1_machine_32 (by omega) (fun a h2 N2 => ?_)
    have a2 := N2.2.1
    refine k_dup C dX1_machine_35 rfl ?_
    refine k_new C nw_X1_74 dX1_machine_36 (by omega) (fun t h3 N3 => ?_)
    have a3 := N3.2.2.1.2 _ _ a2
    have t3 := N3.2.1
    have ta : t ≠ a := Ne.symm (N3.ne a2)
    refine k_dup C dX1_machine_39 rfl ?_
    refine k_iload_n C dX1_machine_40 rfl ?_
    refine kx_I C rfl mi_X1_179 dX1_machine_41 ((c_tbInit (by omega) t3)) rfl rfl (Nat.le_of_ble_eq_true rfl) ⟨(Nat.le_of_ble_eq_true rfl), (Nat.le_of_ble_eq_true rfl)⟩ (by omega) (fun v h4 hp_ => ?_) (fun _ _ hx => hx.elim)
    obtain ⟨rfl, lst, ar, lst3, ar3, G4, U4⟩ := hp_
    have a4 := U4.2 _ _ a3 (by simpa using Ne.symm ta)
    refine kx_I C rfl mi_X1_182 dX1_machine_44 ((c_mcInit G4 a4)) rfl rfl (Nat.le_of_ble_eq_true rfl) ⟨(Nat.le_of_ble_eq_true rfl), (Nat.le_of_ble_eq_true rfl)⟩ (by omega) (fun v h5 hp_ => ?_) (fun _ _ hx => hx.elim)
    obtain ⟨rfl, M5, U5⟩ := hp_
    have E3 : Ext h3 h4 → True := fun _ => trivial
    have E23 := N2.2.2.1.trans N3.2.2.1
    have t0 := N2.2.2.1.old N3.1
    have E4 := U4.ext0 E23 (by simpa using t0)
    have E5 := U5.ext0 E4 (by simpa using N2.1)
    have A5 := A.ext E5
    have l5 := A5.1
    obtain ⟨⟨k5, a5, k5o⟩, G5⟩ := id M5
    have el : isEl h5 σ.n f := fun j j0 j1 => by
      have hj := F j.toNat (by omega)
      rw [show ((j.toNat : Nat) : Int) = j by omega] at hj
      obtain ⟨⟨kj, ej, -⟩, -⟩ := M j.toNat (by omega)
      exact ⟨_, _, hj, E5.2 _ _ ej, rfl⟩
    have hcm := hsep.1.1
    have hlt : X.cm ≤ 15 := by
      rw [hcm]
      have : ∀ n, n < 12 → capOf n ≤ 15 := by decide
      exact this σ.n (by omega)
    have hcost : gcC σ.n X.cm ≤ 1 ∧ gcS σ.n X.cm ≤ 15 := by
      rw [hcm]
      have : ∀ n, n < 12 → gcC n (capOf n) ≤ 1 ∧ gcS n (capOf n) ≤ 15 := by decide
      exact this σ.n (by omega)
    have al : a ≠ X.lm := ne_some N2.1 A.1
    have aa : a ≠ X.am := ne_some N2.1 A.2.1
    refine kx_F C rfl mf_X1_50 dX1_machine_47 ((c_add A5 (by omega) el a5 rfl al aa)) (by assumption) rfl rfl (Nat.le_of_ble_eq_true rfl) ⟨(Nat.le_of_ble_eq_true rfl), (Nat.le_of_ble_eq_true rfl)⟩ (by omega) (fun v h6 hp_ => ?_) (fun _ _ hx => hx.elim)
    obtain ⟨rfl, q, g', r1, r2, r3, r4⟩ := hp_
    have l6 := r1.1
    have x6 : h6.2 x = some (.inl (0, [.ref X.lm, .ref X.lt, .ref X.g])) := by
      have x5 := E5.2 _ _ hX
      rcases r4 with ⟨-, -, u⟩ | ⟨-, -, u⟩
      · exact u.2 _ _ x5 (by simp [ne_cel x5 A5.1 (ne_cls (by decide)), ne_cel x5 A5.2.1 ne_ao])
      · exact u.2 _ _ x5 (by simp [ne_cel x5 A5.1 (ne_cls (by decide))])
    refine k_pop C dX1_machine_52 rfl ?_
    refine k_aload_n C dX1_machine_53 rfl ?_
    refine k_get C fg_X1_130 dX1_machine_54 (by assumption) (by rfl) ?_
    refine kx_F C rfl mf_X1_56 dX1_machine_57 ((c_size l6)) (by assumption) rfl rfl (Nat.le_of_ble_eq_true rfl) ⟨(Nat.le_of_ble_eq_true rfl), (Nat.le_of_ble_eq_true rfl)⟩ (by omega) (fun v k7 hp_ => ?_) (fun _ _ hx => hx.elim)
    obtain ⟨rfl, rfl⟩ := hp_
    refine k_iconst C dX1_machine_62 ?_
    refine k_isub C dX1_machine_63 ?_
    rw [show ((σ.n + 1 : Nat) : Int) - 1 = (σ.n : Nat) by omega]
    have st := add_step (m := ((S, fun _ => none), none, -1, -1)) H hsep E5 M5 N2.1 (E23.old lst3) (E23.old ar3) r1 (fun i hi => by rw [r2 i (by omega) (by omega)]; exact F i hi) r3 r4
    exact k_iret C E dX1_machine_64 (by omega) ⟨rfl, rfl, st⟩
