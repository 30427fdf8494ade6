/-! ===== both at once ===== -/
set_option maxRecDepth 100000
/-- cells that the component writes anew, and the answers' arrays -/
def wrX (c : Cel) : Prop := (∃ v, c = .inl (14, v)) ∨ (∃ n v, 0 < n ∧ c = .inr (4, n, v)) ∨ (∃ v, c = .inl (3, v)) ∨ (∃ v, c = .inl (1, v)) ∨ (∃ n v, c = .inr (2, n, v)) ∨ ∃ n v, c = .inr (3, n, v)
/-- cells that the model writes anew -/
def wrN (c : Cel) : Prop := (∃ v, c = .inl (14, v)) ∨ (∃ n v, 0 < n ∧ c = .inr (4, n, v)) ∨ (∃ v, c = .inl (2, v)) ∨ (∃ v, c = .inl (5, v)) ∨ ∃ n v, c = .inr (5, n, v)
theorem ownX_wr {w : Wd} {h : Hp} {x : Nat} {X : XL} {σ : Sg} (H : isX w h x X σ) (hσ : SgOk σ) {q : Nat} (hq : ownX X σ.n q) : ∃ c : Cel, h.2 q = some c ∧ wrX c := by
  obtain ⟨hX, ⟨f, A, F⟩, ⟨ft, At, Ft⟩, hg, M, TG⟩ := H
  rcases hq with z | ⟨z0, z⟩ | z | ⟨z0, z⟩ | z | ⟨i, hi, z⟩
  · exact ⟨_, by rw [z]; exact A.1, Or.inl ⟨_, rfl⟩⟩
  · exact ⟨_, by rw [z]; exact A.2.1, Or.inr (Or.inl ⟨_, _, z0, rfl⟩)⟩
  · exact ⟨_, by rw [z]; exact At.1, Or.inl ⟨_, rfl⟩⟩
  · exact ⟨_, by rw [z]; exact At.2.1, Or.inr (Or.inl ⟨_, _, z0, rfl⟩)⟩
  · exact ⟨_, by rw [z]; exact hg, Or.inr (Or.inr (Or.inr (Or.inl ⟨_, rfl⟩)))⟩
  · have hT := (hσ.2.2.1 i hi).1.1
    obtain ⟨⟨k, e1, -⟩, -, fi, Ai, -⟩ := M i hi
    rcases z with z | z | z
    · exact ⟨_, by rw [z]; exact e1, Or.inr (Or.inr (Or.inl ⟨_, rfl⟩))⟩
    · exact ⟨_, by rw [z]; exact Ai.1, Or.inl ⟨_, rfl⟩⟩
    · have := Ai.2.2.1
      exact ⟨_, by rw [z]; exact Ai.2.1, Or.inr (Or.inl ⟨_, _, by omega, rfl⟩)⟩
theorem ownM_wr {w : Wd} {h : Hp} {m : Nat} {L : ML} {σ : Sg} {th : Int} {s : Int64} (H : isMo w h m L σ th s) {q : Nat} (hq : ownM m L σ.n q) : ∃ c : Cel, h.2 q = some c ∧ wrN c := by
  obtain ⟨hm, ⟨f, A, F⟩, ⟨ft, At, Ft⟩, M, TG⟩ := H
  rcases hq with z | z | ⟨z0, z⟩ | z | ⟨z0, z⟩ | ⟨i, hi, z⟩
  · exact ⟨_, by rw [z]; exact hm, Or.inr (Or.inr (Or.inl ⟨_, rfl⟩))⟩
  · exact ⟨_, by rw [z]; exact A.1, Or.inl ⟨_, rfl⟩⟩
  · exact ⟨_, by rw [z]; exact A.2.1, Or.inr (Or.inl ⟨_, _, z0, rfl⟩)⟩
  · exact ⟨_, by rw [z]; exact At.1, Or.inl ⟨_, rfl⟩⟩
  · exact ⟨_, by rw [z]; exact At.2.1, Or.inr (Or.inl ⟨_, _, z0, rfl⟩)⟩
  · obtain ⟨e1, fi, e2, -⟩ := M i hi
    rcases z with z | z
    · exact ⟨_, by rw [z]; exact e1, Or.inr (Or.inr (Or.inr (Or.inl ⟨_, rfl⟩)))⟩
    · exact ⟨_, by rw [z]; exact e2, Or.inr (Or.inr (Or.inr (Or.inr ⟨_, _, rfl⟩)))⟩
/-- what is no list and no array of references stays -/
theorem keepX {h h' : Hp} {P : Nat → Prop} (U : UpdP h h' P) (hP : ∀ q, P q → h.2 q = none ∨ ∃ c : Cel, h.2 q = some c ∧ wrX c) {q : Nat} {d : Cel} (e : h.2 q = some d) (hd : ¬ wrX d) : h'.2 q = some d := U.2 _ _ e (fun z => by
  rcases hP q z with y | ⟨c, y, y2⟩
  · rw [e] at y; cases y
  · rw [e] at y; rw [Option.some.inj y] at hd; exact hd y2)
theorem keepN {h h' : Hp} {P : Nat → Prop} (U : UpdP h h' P) (hP : ∀ q, P q → h.2 q = none ∨ ∃ c : Cel, h.2 q = some c ∧ wrN c) {q : Nat} {d : Cel} (e : h.2 q = some d) (hd : ¬ wrN d) : h'.2 q = some d := U.2 _ _ e (fun z => by
  rcases hP q z with y | ⟨c, y, y2⟩
  · rw [e] at y; cases y
  · rw [e] at y; rw [Option.some.inj y] at hd; exact hd y2)
theorem notX_o {c : Nat} {v : List Value} (h : c ≠ 14 ∧ c ≠ 3 ∧ c ≠ 1) : ¬ wrX (.inl (c, v)) := by
  rintro (⟨u, e⟩ | ⟨n, u, -, e⟩ | ⟨u, e⟩ | ⟨u, e⟩ | ⟨n, u, e⟩ | ⟨n, u, e⟩)
  · exact h.1 (Prod.mk.inj (Sum.inl.inj e)).1
  · cases e
  · exact h.2.1 (Prod.mk.inj (Sum.inl.inj e)).1
  · exact h.2.2 (Prod.mk.inj (Sum.inl.inj e)).1
  · cases e
  · cases e
theorem notX_a {k n : Nat} {v : Nat → Value} (h : (k ≠ 4 ∨ n = 0) ∧ k ≠ 2 ∧ k ≠ 3) : ¬ wrX (.inr (k, n, v)) := by
  rintro (⟨u, e⟩ | ⟨n, u, h0, e⟩ | ⟨u, e⟩ | ⟨u, e⟩ | ⟨n, u, e⟩ | ⟨n, u, e⟩)
  · cases e
  · have e1 := (Prod.mk.inj (Sum.inr.inj e)).1
    have e2 := (Prod.mk.inj (Prod.mk.inj (Sum.inr.inj e)).2).1
    omega
  · cases e
  · cases e
  · have e1 := (Prod.mk.inj (Sum.inr.inj e)).1
    omega
  · have e1 := (Prod.mk.inj (Sum.inr.inj e)).1
    omega
theorem notN_o {c : Nat} {v : List Value} (h : c ≠ 14 ∧ c ≠ 2 ∧ c ≠ 5) : ¬ wrN (.inl (c, v)) := by
  rintro (⟨u, e⟩ | ⟨n, u, -, e⟩ | ⟨u, e⟩ | ⟨u, e⟩ | ⟨n, u, e⟩)
  · exact h.1 (Prod.mk.inj (Sum.inl.inj e)).1
  · cases e
  · exact h.2.1 (Prod.mk.inj (Sum.inl.inj e)).1
  · exact h.2.2 (Prod.mk.inj (Sum.inl.inj e)).1
  · cases e
theorem notN_a {k n : Nat} {v : Nat → Value} (h : (k ≠ 4 ∨ n = 0) ∧ k ≠ 5) : ¬ wrN (.inr (k, n, v)) := by
  rintro (⟨u, e⟩ | ⟨n, u, h0, e⟩ | ⟨u, e⟩ | ⟨u, e⟩ | ⟨n, u, e⟩)
  · cases e
  · have e1 := (Prod.mk.inj (Sum.inr.inj e)).1
    have e2 := (Prod.mk.inj (Prod.mk.inj (Sum.inr.inj e)).2).1
    omega
  · cases e
  · cases e
  · have e1 := (Prod.mk.inj (Sum.inr.inj e)).1
    omega
theorem isMo.keepP {w : Wd} {h h' : Hp} {m : Nat} {L : ML} {σ : Sg} {th : Int} {s : Int64} {P : Nat → Prop} (U : UpdP h h' P) (h1 : ∀ q, P q → ¬ ownM m L σ.n q) (h2 : ∀ q, P q → h.2 q = none ∨ ∃ c : Cel, h.2 q = some c ∧ wrX c) (H : isMo w h m L σ th s) : isMo w h' m L σ th s := by
  obtain ⟨hm, ⟨f, A, F⟩, ⟨ft, At, Ft⟩, M, TG⟩ := H
  refine ⟨U.2 _ _ hm (fun z => h1 _ z (Or.inl rfl)), ⟨f, ⟨U.2 _ _ A.1 (fun z => h1 _ z (Or.inr (Or.inl rfl))), ?_, A.2.2⟩, F⟩, ⟨ft, ⟨U.2 _ _ At.1 (fun z => h1 _ z (Or.inr (Or.inr (Or.inr (Or.inl rfl))))), ?_, At.2.2⟩, Ft⟩, fun i hi => ?_, fun i hi => ?_⟩
  · by_cases hc : 0 < L.cm
    · exact U.2 _ _ A.2.1 (fun z => h1 _ z (Or.inr (Or.inr (Or.inl ⟨hc, rfl⟩))))
    · exact keepX U h2 A.2.1 (notX_a ⟨Or.inr (by omega), by decide, by decide⟩)
  · by_cases hc : 0 < L.ct
    · exact U.2 _ _ At.2.1 (fun z => h1 _ z (Or.inr (Or.inr (Or.inr (Or.inr (Or.inl ⟨hc, rfl⟩))))))
    · exact keepX U h2 At.2.1 (notX_a ⟨Or.inr (by omega), by decide, by decide⟩)
  · obtain ⟨e1, fi, e2, e3⟩ := M i hi
    refine ⟨U.2 _ _ e1 (fun z => h1 _ z (Or.inr (Or.inr (Or.inr (Or.inr (Or.inr ⟨i, hi, Or.inl rfl⟩)))))), fi, U.2 _ _ e2 (fun z => h1 _ z (Or.inr (Or.inr (Or.inr (Or.inr (Or.inr ⟨i, hi, Or.inr rfl⟩)))))), fun k k0 k1 => ?_⟩
    have e4 := e3 k k0 k1
    cases hr : (σ.ms i).1.2 k with
    | none => rw [hr] at e4; exact e4
    | some r =>
      rw [hr] at e4
      obtain ⟨a, g, z1, z2, z3⟩ := e4
      exact ⟨a, g, z1, keepX U h2 z2 (notX_a ⟨Or.inl (by decide), by decide, by decide⟩), z3⟩
  · obtain ⟨g, e1, e2⟩ := TG i hi
    exact ⟨g, keepX U h2 e1 (notX_a ⟨Or.inl (by decide), by decide, by decide⟩), e2⟩
theorem isX.keepP {w : Wd} {h h' : Hp} {x : Nat} {X : XL} {σ : Sg} {P : Nat → Prop} (U : UpdP h h' P) (h1 : ∀ q, P q → ¬ ownX X σ.n q) (h2 : ∀ q, P q → h.2 q = none ∨ ∃ c : Cel, h.2 q = some c ∧ wrN c) (H : isX w h x X σ) : isX w h' x X σ := by
  obtain ⟨hX, ⟨f, A, F⟩, ⟨ft, At, Ft⟩, hg, M, TG⟩ := H
  refine ⟨keepN U h2 hX (notN_o (by decide)), ⟨f, ⟨U.2 _ _ A.1 (fun z => h1 _ z (Or.inl rfl)), ?_, A.2.2⟩, F⟩, ⟨ft, ⟨U.2 _ _ At.1 (fun z => h1 _ z (Or.inr (Or.inr (Or.inl rfl)))), ?_, At.2.2⟩, Ft⟩, U.2 _ _ hg (fun z => h1 _ z (Or.inr (Or.inr (Or.inr (Or.inr (Or.inl rfl)))))), fun i hi => ?_, fun i hi => ?_⟩
  · by_cases hc : 0 < X.cm
    · exact U.2 _ _ A.2.1 (fun z => h1 _ z (Or.inr (Or.inl ⟨hc, rfl⟩)))
    · exact keepN U h2 A.2.1 (notN_a ⟨Or.inr (by omega), by decide⟩)
  · by_cases hc : 0 < X.ct
    · exact U.2 _ _ At.2.1 (fun z => h1 _ z (Or.inr (Or.inr (Or.inr (Or.inl ⟨hc, rfl⟩)))))
    · exact keepN U h2 At.2.1 (notN_a ⟨Or.inr (by omega), by decide⟩)
  · obtain ⟨⟨k, e1, e2⟩, g1, fi, Ai, g5⟩ := M i hi
    have own : ∀ q, (q = (X.A i).1 ∨ q = (X.A i).2.2.1 ∨ q = (X.A i).2.2.2) → ¬ P q := fun q hq z => h1 _ z (Or.inr (Or.inr (Or.inr (Or.inr (Or.inr ⟨i, hi, hq⟩)))))
    refine ⟨⟨k, U.2 _ _ e1 (own _ (Or.inl rfl)), keepN U h2 e2 (notN_o (by decide))⟩, keepN U h2 g1 (notN_o (by decide)), fi, ⟨U.2 _ _ Ai.1 (own _ (Or.inr (Or.inl rfl))), U.2 _ _ Ai.2.1 (own _ (Or.inr (Or.inr rfl))), Ai.2.2⟩, fun j j0 j1 => ?_⟩
    obtain ⟨p, e3, e4⟩ := g5 j j0 j1
    refine ⟨p, e3, ?_⟩
    cases hr : (σ.ms i).1.2 j with
    | none => rw [hr] at e4; exact keepN U h2 e4 (notN_o (by decide))
    | some r =>
      rw [hr] at e4
      obtain ⟨b, e5, e6⟩ := e4
      exact ⟨b, keepN U h2 e5 (notN_o (by decide)), keepN U h2 e6 (notN_o (by decide))⟩
  · obtain ⟨e1, f, e2, e3⟩ := TG i hi
    exact ⟨keepN U h2 e1 (notN_o (by decide)), f, keepN U h2 e2 (notN_a ⟨Or.inl (by decide), by decide⟩), e3⟩
/-- the component at σ, the model at τ, the answers' arrays, the script -/
def isB (w : Wd) (h : Hp) (x : Nat) (X : XL) (σ : Sg) (m : Nat) (L : ML) (τ : Sg) (th : Int) (s : Int64) (o od b n : Nat) (f : Int → Int) : Prop := isX w h x X σ ∧ sepX X σ.n σ.k ∧ isMo w h m L τ th s ∧ sepM L τ.n τ.k ∧ (∀ q, ownX X σ.n q → ¬ ownM m L τ.n q) ∧ (∃ g, h.2 o = some (.inr (2, 1, g))) ∧ (∃ g, h.2 od = some (.inr (3, 1, g))) ∧ h.2 b = some (aI 7 n f)
theorem isB.goX {w : Wd} {h h' : Hp} {x : Nat} {X : XL} {σ σ' : Sg} {m : Nat} {L : ML} {τ : Sg} {th : Int} {s : Int64} {o od b n oo : Nat} {f : Int → Int} (B : isB w h x X σ m L τ th s o od b n f) (hσ : SgOk σ) (T : stepO w h h' x X σ σ' oo) (ho : (oo = o ∧ ∃ g, h'.2 o = some (.inr (2, 1, g))) ∨ (oo = od ∧ ∃ g, h'.2 od = some (.inr (3, 1, g)))) : ∃ X', isB w h' x X' σ' m L τ th s o od b n f := by
  obtain ⟨HX, hs, HM, hsm, hd, ⟨g1, o1⟩, ⟨g2, o2⟩, hb⟩ := B
  obtain ⟨X', t1, t2, t3, t4⟩ := T
  have hoo : ∃ c, h.2 oo = some c ∧ ((∃ g, c = .inr (2, 1, g)) ∨ ∃ g, c = .inr (3, 1, g)) := by
    rcases ho with ⟨z, -⟩ | ⟨z, -⟩
    · exact ⟨_, by rw [z]; exact o1, Or.inl ⟨_, rfl⟩⟩
    · exact ⟨_, by rw [z]; exact o2, Or.inr ⟨_, rfl⟩⟩
  obtain ⟨co, eo, ko⟩ := hoo
  have wo : wrX co := by
    rcases ko with ⟨g, e⟩ | ⟨g, e⟩
    · exact Or.inr (Or.inr (Or.inr (Or.inr (Or.inl ⟨_, _, e⟩))))
    · exact Or.inr (Or.inr (Or.inr (Or.inr (Or.inr ⟨_, _, e⟩))))
  have hP2 : ∀ q, (ownX X σ.n q ∨ q = oo) → h.2 q = none ∨ ∃ c : Cel, h.2 q = some c ∧ wrX c := fun q hq => by
    rcases hq with z | z
    · exact Or.inr (ownX_wr HX hσ z)
    · exact Or.inr ⟨co, by rw [z]; exact eo, wo⟩
  have hP1 : ∀ q, (ownX X σ.n q ∨ q = oo) → ¬ ownM m L τ.n q := fun q hq z => by
    rcases hq with y | y
    · exact hd q y z
    · obtain ⟨c, e, hc⟩ := ownM_wr HM z
      rw [y, eo] at e
      rw [← Option.some.inj e] at hc
      rcases ko with ⟨g, e⟩ | ⟨g, e⟩ <;> rw [e] at hc <;> exact notN_a ⟨Or.inl (by decide), by decide⟩ hc
  refine ⟨X', t1, t2, HM.keepP t3 hP1 hP2, hsm, fun q hq z => ?_, ?_, ?_, keepX t3 hP2 hb (notX_a ⟨Or.inl (by decide), by decide, by decide⟩)⟩
  · rcases t4 q hq with y | y
    · exact hd q y z
    · obtain ⟨c, e, -⟩ := ownM_wr HM z
      rw [y] at e; cases e
  · rcases ho with ⟨z, e⟩ | ⟨z, e⟩
    · exact e
    · refine ⟨g1, t3.2 _ _ o1 (fun y => ?_)⟩
      rcases y with y | y
      · obtain ⟨c, e, hc⟩ := ownX_cel HX y
        rw [o1] at e
        rcases hc with ⟨v, e2⟩ | ⟨n, v, e2⟩ | ⟨v, e2⟩ | ⟨v, e2⟩ <;> rw [e2] at e <;> cases e
      · rw [y, z, o2] at o1; cases o1
  · rcases ho with ⟨z, e⟩ | ⟨z, e⟩
    · refine ⟨g2, t3.2 _ _ o2 (fun y => ?_)⟩
      rcases y with y | y
      · obtain ⟨c, e, hc⟩ := ownX_cel HX y
        rw [o2] at e
        rcases hc with ⟨v, e2⟩ | ⟨n, v, e2⟩ | ⟨v, e2⟩ | ⟨v, e2⟩ <;> rw [e2] at e <;> cases e
      · rw [y, z, o1] at o2; cases o2
    · exact e
theorem isB.goM {w : Wd} {h h' : Hp} {x : Nat} {X : XL} {σ : Sg} {m : Nat} {L : ML} {τ τ' : Sg} {th th' : Int} {s s' : Int64} {o od b n : Nat} {f : Int → Int} (B : isB w h x X σ m L τ th s o od b n f) (hσ : SgOk σ) (T : stepM w h h' m L τ τ' th' s') : ∃ L', isB w h' x X σ m L' τ' th' s' o od b n f := by
  obtain ⟨HX, hs, HM, hsm, hd, ⟨g1, o1⟩, ⟨g2, o2⟩, hb⟩ := B
  obtain ⟨L', t1, t2, t3, t4⟩ := T
  have hP2 : ∀ q, ownM m L τ.n q → h.2 q = none ∨ ∃ c : Cel, h.2 q = some c ∧ wrN c := fun q hq => Or.inr (ownM_wr HM hq)
  have arr : ∀ {q k n : Nat} {v : Nat → Value}, h.2 q = some (.inr (k, n, v)) → k ≠ 4 → k ≠ 5 → h'.2 q = some (.inr (k, n, v)) := fun e e2 e3 => keepN t3 hP2 e (notN_a ⟨Or.inl e2, e3⟩)
  refine ⟨L', HX.keepP t3 (fun q hq z => hd q z hq) hP2, hs, t1, t2, fun q hq z => ?_, ⟨g1, arr o1 (by decide) (by decide)⟩, ⟨g2, arr o2 (by decide) (by decide)⟩, arr hb (by decide) (by decide)⟩
  rcases t4 q z with y | y
  · exact hd q hq y
  · obtain ⟨c, e, -⟩ := ownX_cel HX hq
    rw [y] at e; cases e
