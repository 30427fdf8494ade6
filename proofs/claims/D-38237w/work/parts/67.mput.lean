/-! ===== the model: a machine put anew ===== -/
set_option maxRecDepth 100000
theorem mput_is {w : Wd} {h hM h' : Hp} {m i tk rf bk : Nat} {L : ML} {σ : Sg} {th th' : Int} {s : Int64} {mc : Mch} {S : List Nat} (H : isMo w h m L σ th s) (hsep : sepM L σ.n σ.k) (hi : i < σ.n) (E : Ext h hM) (U : Upd hM h' S) (hS : ∀ y ∈ S, y = m ∨ y = (L.A i).1 ∨ y = (L.A i).2)
    (Mn : isMd h' (L.A i).1 (L.A i).2 mc.1 (kindN mc) mc.2.2.1 mc.2.2.2) (hm' : h'.2 m = some (.inl (2, [jI th', .ref L.lm, .ref L.lt, jI ((tk : Nat) + (rf : Nat)), jI (tk : Nat), jI (bk : Nat), .long s]))) : isMo w h' m L (putG σ i mc tk rf bk) th' s ∧ UpdP h h' (ownM m L σ.n) := by
  obtain ⟨s12, s3, s4, s5⟩ := id hsep
  have HM := H.ext E
  obtain ⟨hm, ⟨f, A, F⟩, ⟨ft, At, Ft⟩, M, TG⟩ := id HM
  obtain ⟨ei, fi, ai, -⟩ := id (M i hi)
  have hcls : okS hM S := fun y hy => by
    rcases hS y hy with z | z | z
    · exact Or.inr ⟨_, by rw [z]; exact hm, Or.inr (Or.inr (Or.inl ⟨_, rfl⟩))⟩
    · exact Or.inr ⟨_, by rw [z]; exact ei, Or.inr (Or.inr (Or.inr (Or.inl ⟨_, rfl⟩)))⟩
    · exact Or.inr ⟨_, by rw [z]; exact ai, Or.inr (Or.inr (Or.inr (Or.inr ⟨_, _, rfl⟩)))⟩
  have notin : ∀ (y : Nat) (d : Cel), hM.2 y = some d → (∀ v : List Value, d ≠ .inl (2, v)) → (∀ v : List Value, d ≠ .inl (5, v)) → (∀ (n : Nat) (v : Nat → Value), d ≠ .inr (5, n, v)) → y ∉ S := fun y d e k1 k2 k3 hy => by
    rcases hS y hy with z | z | z
    · rw [z, hm] at e; exact k1 _ (Option.some.inj e).symm
    · rw [z, ei] at e; exact k2 _ (Option.some.inj e).symm
    · rw [z, ai] at e; exact k3 _ _ (Option.some.inj e).symm
  have obj : ∀ (y : Nat) (v : List Value), hM.2 y = some (.inl (14, v)) → y ∉ S := fun y v e => notin _ _ e (fun v e => by cases e) (fun v e => by cases e) (fun n v e => by cases e)
  have arr : ∀ (y n : Nat) (v : Nat → Value), hM.2 y = some (.inr (4, n, v)) → y ∉ S := fun y n v e => notin _ _ e (fun v e => by cases e) (fun v e => by cases e) (fun n v e => by cases e)
  refine ⟨⟨hm', ⟨f, A.upd U (obj _ _ A.1) (arr _ _ _ A.2.1), F⟩, ⟨ft, At.upd U (obj _ _ At.1) (arr _ _ _ At.2.1), Ft⟩, fun j hj => ?_, fun j hj => (TG j hj).keep U hcls⟩, ?_⟩
  · show isMd h' (L.A j).1 (L.A j).2 (upN σ.ms i mc j).1 (kindN (upN σ.ms i mc j)) (upN σ.ms i mc j).2.2.1 (upN σ.ms i mc j).2.2.2
    by_cases e : j = i
    · subst e; rw [upN_at]; exact Mn
    · rw [upN_ne e]
      have Mj := M j hj
      obtain ⟨ej, fj, aj, -⟩ := id Mj
      obtain ⟨d1, d2⟩ := s5 j i hj hi e
      refine Mj.keep U (fun hy => ?_) (fun hy => ?_) hcls
      · rcases hS _ hy with z | z | z
        · exact ne_cel ej hm (ne_cls (by decide)) z
        · exact d1 z
        · exact ne_cel ej ai ne_ao z
      · rcases hS _ hy with z | z | z
        · exact ne_cel aj hm ne_oa z
        · exact ne_cel aj ei ne_oa z
        · exact d2 z
  · exact (E.updP _).trans (U.updP (P := ownM m L σ.n) (fun y hy => by
      rcases hS y hy with z | z | z
      · exact Or.inl z
      · exact Or.inr (Or.inr (Or.inr (Or.inr (Or.inr ⟨i, hi, Or.inl z⟩))))
      · exact Or.inr (Or.inr (Or.inr (Or.inr (Or.inr ⟨i, hi, Or.inr z⟩)))))) (fun y hy => Or.inl hy)
theorem mput_step {w : Wd} {h hM h' : Hp} {m i tk rf bk : Nat} {L : ML} {σ : Sg} {th th' : Int} {s : Int64} {mc : Mch} {S : List Nat} (H : isMo w h m L σ th s) (hsep : sepM L σ.n σ.k) (hi : i < σ.n) (E : Ext h hM) (U : Upd hM h' S) (hS : ∀ y ∈ S, y = m ∨ y = (L.A i).1 ∨ y = (L.A i).2)
    (Mn : isMd h' (L.A i).1 (L.A i).2 mc.1 (kindN mc) mc.2.2.1 mc.2.2.2) (hm' : h'.2 m = some (.inl (2, [jI th', .ref L.lm, .ref L.lt, jI ((tk : Nat) + (rf : Nat)), jI (tk : Nat), jI (bk : Nat), .long s]))) : stepM w h h' m L σ (putG σ i mc tk rf bk) th' s := by
  obtain ⟨r1, r2⟩ := mput_is H hsep hi E U hS Mn hm'
  exact ⟨L, r1, hsep, r2, fun y hy => Or.inl hy⟩
theorem c_mdOpen {w : Wd} {h : Hp} {a cs : Nat} {T : Tb} {kv av bv : Int} (hk : i32 kv) (H : isMd h a cs T kv av bv) : Ct w yX6_open (ws_ yX6_open cX6_open 2 (some FieldType.boolean)) 0 0 0 0 [.ref a] h (fun v h' => v = some (jI (b2i (decide (kv ≠ -1)))) ∧ Put h h' a (.inl (5, [jI (T.1 : Nat), .ref cs, jI (-1), jI (-1), jI (-1)]))) NoX := by
  have h1 := H.1
  unfold i32 at hk
  refine Ct.of (by decide) [some (.ref a), none] rfl (Nat.le_of_ble_eq_true rfl) (fun K C E N0 => ?_)
  refine k_aload_n C dX6_open_0 rfl ?_
  refine k_get C fg_X6_9 dX6_open_1 (by assumption) (by rfl) ?_
  refine k_iconst C dX6_open_4 ?_
  have tail : ∀ bb : Bool, bb = decide (kv ≠ -1) → Wk w K h 0 0 13 [some (.ref a), none] [jI (b2i bb)] := by
    intro bb hbb
    refine k_istore_n C dX6_open_13 (Nat.le_of_ble_eq_true rfl) rfl ?_
    refine k_aload_n C dX6_open_14 rfl ?_
    refine k_iconst C dX6_open_15 ?_
    refine k_put C fg_X6_9 ft_5_2 dX6_open_16 (by assumption) rfl rfl rfl (fun g2 P2 => ?_)
    have a2 := P2.2.1
    refine k_aload_n C dX6_open_19 rfl ?_
    refine k_iconst C dX6_open_20 ?_
    refine k_put C fg_X6_15 ft_5_3 dX6_open_21 (by assumption) rfl rfl rfl (fun g3 P3 => ?_)
    have a3 := P3.2.1
    refine k_aload_n C dX6_open_24 rfl ?_
    refine k_iconst C dX6_open_25 ?_
    refine k_put C fg_X6_18 ft_5_4 dX6_open_26 (by assumption) rfl rfl rfl (fun g4 P4 => ?_)
    have Q := (P2.trans P3).trans P4
    refine k_iload_n C dX6_open_29 rfl ?_
    exact k_zret (b := bb) C E dX6_open_30 (by omega) ⟨by rw [hbb], Q⟩
  refine k_icmp_eq C dX6_open_5 (tgt := 12) (by decide) (by omega) (fun g1 => ?_) (fun g2 => ?_)
  · refine k_iconst C dX6_open_12 ?_
    exact tail false (decide_eq_false (fun z => z g1)).symm
  · refine k_iconst C dX6_open_8 ?_
    refine k_goto C dX6_open_9 (tgt := 13) (by decide) ?_
    exact tail true (decide_eq_true g2).symm
