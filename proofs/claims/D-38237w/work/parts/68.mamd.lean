/-! ===== the model: put ===== -/
set_option maxRecDepth 100000
/-- a machine with one cell more: not decided any more -/
def amdM (mc : Mch) (k : Int) (r : Ru) : Mch := ((mc.1.1, up mc.1.2 k (some r)), none, -1, -1)
theorem kindN_some (mc : Mch) : decide (kindN mc ≠ -1) = mc.2.1.isSome := by
  unfold kindN
  cases mc.2.1 with
  | none => rfl
  | some κ => exact decide_eq_true (by show (κ : Int) ≠ -1; omega)
theorem c_mPut {w : Wd} {h : Hp} {m i : Nat} {L : ML} {σ : Sg} {th t b y v x : Int} {s : Int64} (H : isMo w h m L σ th s) (hsep : sepM L σ.n σ.k) (hi : i < σ.n) (hk : i32 (kindN (σ.ms i))) (hT : (σ.ms i).1.1 ≤ 4) (hbk : σ.bk < 1000000) (ht : 0 ≤ t ∧ t < (σ.ms i).1.1) (hb : 0 ≤ b ∧ b ≤ 1) : Ct w yX3_put (ws_ yX3_put cX3_put 9 (some FieldType.boolean)) 1 21 1 3 [.ref m, .ref (L.A i).1, jI t, jI b, jI y, jI v, jI x] h (fun r h' => r = some (jI (b2i (σ.ms i).2.1.isSome)) ∧ stepM w h h' m L σ (putG σ i (amdM (σ.ms i) (2 * t + b) (y, v, x)) σ.tk σ.rf (σ.bk + (if (σ.ms i).2.1.isSome then 1 else 0))) th s) NoX := by
  have hm := H.1
  obtain ⟨e1, f, e2, e3⟩ := H.2.2.2.1 i hi
  refine Ct.of (by decide) [some (.ref m), some (.ref (L.A i).1), some (jI t), some (jI b), some (jI y), some (jI v), some (jI x), none, none] rfl (Nat.le_of_ble_eq_true rfl) (fun K C E N0 => ?_)
  refine k_iconst C dX3_put_0 ?_
  refine k_newarr (kd := 0) (g := fun j : Nat => jI ((fun _ => 0 : Int → Int) (j : Int))) C q358 rfl rfl (fun _ => rfl) dX3_put_1 (by omega) (by decide) (by omega) (fun a h2 N2 => ?_)
  have n2 : h2.2 a = some (aI 0 3 (fun _ => 0)) := N2.2.1
  refine k_dup C dX3_put_3 rfl ?_
  refine k_iconst C dX3_put_4 ?_
  refine k_iload C dX3_put_5 rfl ?_
  refine k_iast C dX3_put_7 (by assumption) (by omega) (fun h3 P3 => ?_)
  have n3 := P3.2.1
  refine k_dup C dX3_put_8 rfl ?_
  refine k_iconst C dX3_put_9 ?_
  refine k_iload C dX3_put_10 rfl ?_
  refine k_iast C dX3_put_12 (by assumption) (by omega) (fun h4 P4 => ?_)
  have n4 := P4.2.1
  refine k_dup C dX3_put_13 rfl ?_
  refine k_iconst C dX3_put_14 ?_
  refine k_iload C dX3_put_15 rfl ?_
  refine k_iast C dX3_put_17 (by assumption) (by omega) (fun h5 P5 => ?_)
  have n5 := P5.2.1
  have N5 := ((N2.put P3).put P4).put P5
  have E5 := N5.2.2.1
  have m5 := E5.2 _ _ hm
  have e15 := E5.2 _ _ e1
  have e25 := E5.2 _ _ e2
  refine k_astore C dX3_put_18 (Nat.le_of_ble_eq_true rfl) rfl ?_
  refine k_aload_n C dX3_put_20 rfl ?_
  refine k_getN C fn_X3_59 dX3_put_21 (by assumption) (by rfl) ?_
  refine k_iconst C dX3_put_24 ?_
  refine k_iload_n C dX3_put_25 rfl ?_
  refine k_imul C dX3_put_26 ?_
  refine k_iload_n C dX3_put_27 rfl ?_
  refine k_iadd C dX3_put_28 ?_
  refine k_aload C dX3_put_29 rfl ?_
  refine k_aast C dX3_put_31 (by assumption) n5 ⟨rfl, Or.inl rfl⟩ (by omega) (fun h6 P6 => ?_)
  have U6 := P6.upd
  have e26 := P6.2.1
  have e16 := P6.2.2 _ _ e15 (ne_cel e15 e25 ne_ao)
  have m6 := P6.2.2 _ _ m5 (ne_cel m5 e25 ne_ao)
  have c6 : ∀ k : Int, 0 ≤ k → k < (2 * (σ.ms i).1.1 : Nat) → isC h6 (up f (2 * t + b) (some a) k) (up (σ.ms i).1.2 (2 * t + b) (some (y, v, x)) k) := fun k k0 k1 => by
    by_cases ek : k = 2 * t + b
    · subst ek
      rw [up_at, up_at]
      exact ⟨a, _, rfl, P6.2.2 _ _ n5 (ne_cel n5 e25 (fun z => by cases z)), by rw [up_ne (by decide), up_ne (by decide), up_at], by rw [up_ne (by decide), up_at], up_at⟩
    · rw [up_ne ek, up_ne ek]
      refine ((e3 k k0 k1).ext E5).keep U6 (fun q hq n g _ e => ?_)
      rw [show q = (L.A i).2 by simpa using hq, e25] at e
      cases e
  have M6 : isMd h6 (L.A i).1 (L.A i).2 ((σ.ms i).1.1, up (σ.ms i).1.2 (2 * t + b) (some (y, v, x))) (kindN (σ.ms i)) (σ.ms i).2.2.1 (σ.ms i).2.2.2 := ⟨e16, _, e26, c6⟩
  refine k_aload_n C dX3_put_32 rfl ?_
  refine kx_V C rfl mv_X3_63 dX3_put_33 ((c_mdOpen hk M6)) (by assumption) rfl rfl (Nat.le_of_ble_eq_true rfl) ⟨(Nat.le_of_ble_eq_true rfl), (Nat.le_of_ble_eq_true rfl)⟩ (by omega) (fun r7 h7 hp_ => ?_) (fun _ _ hx => hx.elim)
  obtain ⟨rfl, P7⟩ := hp_
  rw [kindN_some]
  have m7 := P7.2.2 _ _ m6 (ne_cel m6 e16 (ne_cls (by decide)))
  have e17 := P7.2.1
  have e27 := P7.2.2 _ _ e26 (ne_cel e26 e16 ne_oa)
  have fin : ∀ h8 : Hp, Put h7 h8 m (.inl (2, [jI th, .ref L.lm, .ref L.lt, jI ((σ.tk : Nat) + (σ.rf : Nat)), jI (σ.tk : Nat), jI (((σ.bk + (if (σ.ms i).2.1.isSome then 1 else 0)) : Nat) : Int), .long s])) → stepM w h h8 m L σ (putG σ i (amdM (σ.ms i) (2 * t + b) (y, v, x)) σ.tk σ.rf (σ.bk + (if (σ.ms i).2.1.isSome then 1 else 0))) th s := fun h8 P8 => by
    have U8 : Upd h5 h8 [m, (L.A i).1, (L.A i).2] := ((U6.sub (T := [m, (L.A i).1, (L.A i).2]) (fun q hq => by simp at hq; simp [hq])).trans P7.upd (fun q hq => Or.inl (by simp at hq; simp [hq]))).trans P8.upd (fun q hq => Or.inl (by simp at hq; simp [hq]))
    have e18 := P8.2.2 _ _ e17 (ne_cel e17 m7 (ne_cls (by decide)))
    have e28 := P8.2.2 _ _ e27 (ne_cel e27 m7 ne_oa)
    refine mput_step H hsep hi E5 U8 (fun q hq => by simpa using hq) ⟨e18, _, e28, fun k k0 k1 => ?_⟩ P8.2.1
    refine (c6 k k0 k1).keep (S := [m, (L.A i).1]) ((P7.upd.sub (fun q hq => by simp at hq; simp [hq])).trans P8.upd (fun q hq => Or.inl (by simp at hq; simp [hq]))) (fun q hq n g _ e => ?_)
    have hq' : q = m ∨ q = (L.A i).1 := by simpa using hq
    rcases hq' with z | z
    · rw [z, m6] at e; cases e
    · rw [z, e16] at e; cases e
  refine k_istore C dX3_put_36 (Nat.le_of_ble_eq_true rfl) rfl ?_
  refine k_aload_n C dX3_put_38 rfl ?_
  refine k_dup C dX3_put_39 rfl ?_
  refine k_get C fg_X3_67 dX3_put_40 (by assumption) (by rfl) ?_
  refine k_iload C dX3_put_43 rfl ?_
  cases hs : (σ.ms i).2.1.isSome with
  | true =>
    rw [hs] at fin E
    refine k_ifeq_b C dX3_put_45 (tgt := 52) (by decide) (fun z => by cases z) (fun _ => ?_)
    refine k_iconst C dX3_put_48 ?_
    refine k_goto C dX3_put_49 (tgt := 53) (by decide) ?_
    refine k_iadd C dX3_put_53 ?_
    refine k_put C fg_X3_67 ft_2_5 dX3_put_54 (by assumption) rfl rfl rfl (fun h8 P8 => ?_)
    refine k_iload C dX3_put_57 rfl ?_
    exact k_zret (b := true) C E dX3_put_59 (by omega) ⟨rfl, fin _ P8⟩
  | false =>
    rw [hs] at fin E
    refine k_ifeq_b C dX3_put_45 (tgt := 52) (by decide) (fun _ => ?_) (fun z => by cases z)
    refine k_iconst C dX3_put_52 ?_
    refine k_iadd C dX3_put_53 ?_
    refine k_put C fg_X3_67 ft_2_5 dX3_put_54 (by assumption) rfl rfl rfl (fun h8 P8 => ?_)
    refine k_iload C dX3_put_57 rfl ?_
    exact k_zret (b := false) C E dX3_put_59 (by omega) ⟨rfl, fin _ P8⟩
