/-! ===== the model: an iterator's step leaves it alone ===== -/
set_option maxRecDepth 100000
theorem isMo.it {w : Wd} {h h' : Hp} {m q : Nat} {L : ML} {σ : Sg} {th : Int} {s : Int64} {v0 : List Value} (hq : h.2 q = some (.inl (16, v0))) (U : Upd h h' [q]) (H : isMo w h m L σ th s) : isMo w h' m L σ th s := by
  have k : ∀ (y : Nat) (d : Cel), h.2 y = some d → (∀ v : List Value, d ≠ .inl (16, v)) → h'.2 y = some d := fun y d e n => U.2 _ _ e (fun z => by
    rw [show y = q by simpa using z, hq] at e
    exact n _ (Option.some.inj e).symm)
  obtain ⟨hm, ⟨f, A, F⟩, ⟨ft, At, Ft⟩, M, TG⟩ := H
  refine ⟨k _ _ hm (fun v e => by cases e), ⟨f, ⟨k _ _ A.1 (fun v e => by cases e), k _ _ A.2.1 (fun v e => by cases e), A.2.2⟩, F⟩, ⟨ft, ⟨k _ _ At.1 (fun v e => by cases e), k _ _ At.2.1 (fun v e => by cases e), At.2.2⟩, Ft⟩, fun i hi => ?_, fun i hi => ?_⟩
  · obtain ⟨e1, f1, e2, e3⟩ := M i hi
    refine ⟨k _ _ e1 (fun v e => by cases e), f1, k _ _ e2 (fun v e => by cases e), fun j j0 j1 => (e3 j j0 j1).keep U (fun y hy n g _ e => ?_)⟩
    rw [show y = q by simpa using hy, hq] at e
    cases e
  · obtain ⟨g, e1, e2⟩ := TG i hi
    exact ⟨g, k _ _ e1 (fun v e => by cases e), e2⟩
