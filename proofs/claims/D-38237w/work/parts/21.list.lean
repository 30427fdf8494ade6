/-! ===== ArrayList ===== -/
set_option maxRecDepth 100000
theorem Put.trans {h h1 h2 : Hp} {a : Nat} {c d : Cel} (P : Put h h1 a c) (Q : Put h1 h2 a d) : Put h h2 a d := ⟨Q.1.trans P.1, Q.2.1, fun b e eb hb => Q.2.2 b e (P.2.2 b e eb hb) hb⟩
theorem Upd.none {a b : Hp} {S : List Nat} {q : Nat} (U : Upd a b S) (h : b.2 q = none) (hq : q ∉ S) : a.2 q = none := by
  cases e : a.2 q with
  | none => rfl
  | some c => rw [U.2 _ _ e hq] at h; cases h
/-- a list of n references, in an array of cap places; the count of changes is n (nothing is ever taken out) -/
def isAL (w : Wd) (h : Hp) (l ar n cap : Nat) (f : Int → Option Nat) : Prop := h.2 l = some (.inl (14, [jI n, .ref ar, jI n])) ∧ h.2 ar = some (aR 4 cap f) ∧ n ≤ cap ∧ cap < 1000000 ∧ (cap = 0 → ar = w.ad 5)
def isEl (h : Hp) (n : Nat) (f : Int → Option Nat) : Prop := ∀ i : Int, 0 ≤ i → i < n → ∃ (y : Nat) (c : Cel), f i = some y ∧ h.2 y = some c ∧ okE c = true
theorem isEl.ext {h h' : Hp} {n : Nat} {f : Int → Option Nat} (E : Ext h h') (H : isEl h n f) : isEl h' n f := fun i h0 h1 => by
  obtain ⟨y, c, e1, e2, e3⟩ := H i h0 h1
  exact ⟨y, c, e1, E.2 _ _ e2, e3⟩
theorem Put.old {h h' : Hp} {a q : Nat} {c c0 : Cel} (P : Put h h' a c) (h0 : h.2 a = some c0) (e : h'.2 q = none) : h.2 q = none := by
  cases hq : h.2 q with
  | none => rfl
  | some d =>
    by_cases hqa : q = a
    · rw [hqa, P.2.1] at e; cases e
    · rw [P.2.2 _ _ hq hqa] at e; cases e
theorem isEl.put {h h' : Hp} {n a : Nat} {f : Int → Option Nat} {c : Cel} (P : Put h h' a c) (hc : okE c = true) (H : isEl h n f) : isEl h' n f := fun i h0 h1 => by
  obtain ⟨y, d, e1, e2, e3⟩ := H i h0 h1
  by_cases hy : y = a
  · exact ⟨y, c, e1, by rw [hy]; exact P.2.1, hc⟩
  · exact ⟨y, d, e1, P.2.2 _ _ e2 hy, e3⟩
theorem isAL.ext {w : Wd} {h h' : Hp} {l ar n cap : Nat} {f : Int → Option Nat} (E : Ext h h') (H : isAL w h l ar n cap f) : isAL w h' l ar n cap f := ⟨E.2 _ _ H.1, E.2 _ _ H.2.1, H.2.2⟩
theorem isAL.upd {w : Wd} {h h' : Hp} {l ar n cap : Nat} {f : Int → Option Nat} {S : List Nat} (E : Upd h h' S) (hl : l ∉ S) (ha : ar ∉ S) (H : isAL w h l ar n cap f) : isAL w h' l ar n cap f := ⟨E.2 _ _ H.1 hl, E.2 _ _ H.2.1 ha, H.2.2⟩
theorem c_acInit {w : Wd} {h : Hp} {l : Nat} : Ct w yJ0_init (ws_ yJ0_init cJ0_init 1 none) 1 40 0 0 [.ref l] h (fun v h' => v = none ∧ h' = h) NoX := by
  refine Ct.of (by decide) [some (.ref l)] rfl (Nat.le_of_ble_eq_true rfl) (fun K C E N0 => ?_)
  refine k_aload_n C dJ0_init_0 rfl ?_
  refine k_objinit C rfl q85 q72 qobj dJ0_init_1 ⟨(Nat.le_of_ble_eq_true rfl), (Nat.le_of_ble_eq_true rfl)⟩ ?_
  exact k_vret C E dJ0_init_4 (by omega) ⟨rfl, rfl⟩
theorem c_alistInit {w : Wd} {h : Hp} {l : Nat} {v0 v1 v2 : Value} (hl0 : h.2 l = some (.inl (14, [v0, v1, v2]))) : Ct w yJ1_init (ws_ yJ1_init cJ1_init 1 none) 2 60 0 0 [.ref l] h (fun v h' => v = none ∧ Put h h' l (.inl (14, [jI 0, v1, v2]))) NoX := by
  refine Ct.of (by decide) [some (.ref l)] rfl (Nat.le_of_ble_eq_true rfl) (fun K C E N0 => ?_)
  refine k_aload_n C dJ1_init_0 rfl ?_
  refine kx_I C rfl mi_J1_1 dJ1_init_1 (c_acInit) rfl rfl (Nat.le_of_ble_eq_true rfl) ⟨(Nat.le_of_ble_eq_true rfl), (Nat.le_of_ble_eq_true rfl)⟩ (by omega) (fun v h1 hp_ => ?_) (fun _ _ hx => hx.elim)
  obtain ⟨rfl, rfl⟩ := hp_
  refine k_aload_n C dJ1_init_4 rfl ?_
  refine k_iconst C dJ1_init_5 ?_
  refine k_put C fg_J1_7 ft_14_0 dJ1_init_6 (by assumption) rfl rfl rfl (fun h1 P => ?_)
  exact k_vret C E dJ1_init_9 (by omega) ⟨rfl, P⟩
theorem c_alInit {w : Wd} {h : Hp} {l : Nat} {v0 v1 v2 : Value} (hl0 : h.2 l = some (.inl (14, [v0, v1, v2]))) : Ct w yJ2_init (ws_ yJ2_init cJ2_init 1 none) 3 80 0 0 [.ref l] h (fun v h' => v = none ∧ Put h h' l (.inl (14, [jI 0, .ref (w.ad 5), v2]))) NoX := by
  refine Ct.of (by decide) [some (.ref l)] rfl (Nat.le_of_ble_eq_true rfl) (fun K C E N0 => ?_)
  refine k_aload_n C dJ2_init_0 rfl ?_
  refine kx_I C rfl mi_J2_1 dJ2_init_1 ((c_alistInit hl0)) rfl rfl (Nat.le_of_ble_eq_true rfl) ⟨(Nat.le_of_ble_eq_true rfl), (Nat.le_of_ble_eq_true rfl)⟩ (by omega) (fun v h1 hp_ => ?_) (fun _ _ hx => hx.elim)
  obtain ⟨rfl, P1⟩ := hp_
  have hl1 := P1.2.1
  refine k_aload_n C dJ2_init_4 rfl ?_
  refine k_gets (i0 := 5) C (by simp [stAll]) q86 dJ2_init_5 ?_
  refine k_put C fg_J2_9 ft_14_1 dJ2_init_8 (by assumption) rfl rfl rfl (fun h2 P2 => ?_)
  exact k_vret C E dJ2_init_11 (by omega) ⟨rfl, P1.trans P2⟩
theorem c_size {w : Wd} {h : Hp} {l : Nat} {v0 v1 : Value} {z : Int} (hl0 : h.2 l = some (.inl (14, [v0, v1, jI z]))) : Ct w yJ2_size (ws_ yJ2_size cJ2_size 1 (some FieldType.int)) 0 0 0 0 [.ref l] h (fun v h' => v = some (jI z) ∧ h' = h) NoX := by
  refine Ct.of (by decide) [some (.ref l)] rfl (Nat.le_of_ble_eq_true rfl) (fun K C E N0 => ?_)
  refine k_aload_n C dJ2_size_0 rfl ?_
  refine k_get C fg_J2_48 dJ2_size_1 (by assumption) (by rfl) ?_
  exact k_iret C E dJ2_size_4 (by omega) ⟨rfl, rfl⟩
theorem c_isEmpty {w : Wd} {h : Hp} {l : Nat} {v0 v1 : Value} {z : Int} (hz : 0 ≤ z ∧ z < 1000000) (hl0 : h.2 l = some (.inl (14, [v0, v1, jI z]))) : Ct w yJ2_isEmpty (ws_ yJ2_isEmpty cJ2_isEmpty 1 (some FieldType.boolean)) 0 0 0 0 [.ref l] h (fun v h' => v = some (jI (b2i (decide (z = 0)))) ∧ h' = h) NoX := by
  refine Ct.of (by decide) [some (.ref l)] rfl (Nat.le_of_ble_eq_true rfl) (fun K C E N0 => ?_)
  refine k_aload_n C dJ2_isEmpty_0 rfl ?_
  refine k_get C fg_J2_48 dJ2_isEmpty_1 (by assumption) (by rfl) ?_
  refine k_if_ne C dJ2_isEmpty_4 (tgt := 11) (by decide) (by omega) (fun h1 => ?_) (fun h2 => ?_)
  · refine k_iconst C dJ2_isEmpty_11 ?_
    exact k_zret (b := false) C E dJ2_isEmpty_12 (by omega) ⟨by rw [decide_eq_false h1], rfl⟩
  · refine k_iconst C dJ2_isEmpty_7 ?_
    refine k_goto C dJ2_isEmpty_8 (tgt := 12) (by decide) ?_
    exact k_zret (b := true) C E dJ2_isEmpty_12 (by omega) ⟨by rw [decide_eq_true h2], rfl⟩
theorem c_pre {w : Wd} {h : Hp} {i z : Int} (hi : 0 ≤ i ∧ i < z ∧ z < 2147483648) : Ct w yJ16_checkIndex (ws_ yJ16_checkIndex cJ16_checkIndex 3 (some FieldType.int)) 0 0 0 0 [jI i, jI z, .null] h (fun v h' => v = some (jI i) ∧ h' = h) NoX := by
  refine Ct.of (by decide) [some (jI i), some (jI z), some (.null)] rfl (Nat.le_of_ble_eq_true rfl) (fun K C E N0 => ?_)
  refine k_iload_n C dJ16_checkIndex_0 rfl ?_
  refine k_if_lt C dJ16_checkIndex_1 (tgt := 9) (by decide) (by omega) (fun h1 => ?_) (fun h2 => ?_)
  · omega
  refine k_iload_n C dJ16_checkIndex_4 rfl ?_
  refine k_iload_n C dJ16_checkIndex_5 rfl ?_
  refine k_icmp_lt C dJ16_checkIndex_6 (tgt := 16) (by decide) (by omega) (fun h3 => ?_) (fun h4 => ?_)
  · refine k_iload_n C dJ16_checkIndex_16 rfl ?_
    exact k_iret C E dJ16_checkIndex_17 (by omega) ⟨rfl, rfl⟩
  · omega
theorem c_checkIndex {w : Wd} {h : Hp} {i z : Int} (hi : 0 ≤ i ∧ i < z ∧ z < 2147483648) : Ct w yJ15_checkIndex (ws_ yJ15_checkIndex cJ15_checkIndex 2 (some FieldType.int)) 1 22 0 0 [jI i, jI z] h (fun v h' => v = some (jI i) ∧ h' = h) NoX := by
  refine Ct.of (by decide) [some (jI i), some (jI z)] rfl (Nat.le_of_ble_eq_true rfl) (fun K C E N0 => ?_)
  refine k_iload_n C dJ15_checkIndex_0 rfl ?_
  refine k_iload_n C dJ15_checkIndex_1 rfl ?_
  refine k_null C dJ15_checkIndex_2 ?_
  refine kx_S C rfl ms_J15_105 dJ15_checkIndex_3 ((c_pre hi)) rfl rfl (Nat.le_of_ble_eq_true rfl) ⟨(Nat.le_of_ble_eq_true rfl), (Nat.le_of_ble_eq_true rfl)⟩ (by omega) (fun v h1 hp_ => ?_) (fun _ _ hx => hx.elim)
  obtain ⟨rfl, rfl⟩ := hp_
  exact k_iret C E dJ15_checkIndex_6 (by omega) ⟨rfl, rfl⟩
theorem c_elem {w : Wd} {h : Hp} {l ar n cap : Nat} {f : Int → Option Nat} {i : Int} {y : Nat} (H : isAL w h l ar n cap f) (hi : 0 ≤ i ∧ i < cap) (hf : f i = some y) : Ct w yJ2_elementData (ws_ yJ2_elementData cJ2_elementData 2 (some (FieldType.object "java/lang/Object"))) 0 0 0 0 [.ref l, jI i] h (fun v h' => v = some (.ref y) ∧ h' = h) NoX := by
  obtain ⟨H1, H2, H3, H4, H5⟩ := H
  refine Ct.of (by decide) [some (.ref l), some (jI i)] rfl (Nat.le_of_ble_eq_true rfl) (fun K C E N0 => ?_)
  refine k_aload_n C dJ2_elementData_0 rfl ?_
  refine k_get C fg_J2_9 dJ2_elementData_1 (by assumption) (by rfl) ?_
  refine k_iload_n C dJ2_elementData_4 rfl ?_
  refine k_aald C dJ2_elementData_5 (by assumption) (by rfl) (by rfl) (by omega) hf ?_
  exact k_aret C (Or.inl ⟨_, rfl⟩) E dJ2_elementData_6 (by omega) ⟨rfl, rfl⟩
theorem c_get {w : Wd} {h : Hp} {l ar n cap : Nat} {f : Int → Option Nat} {i : Int} {y : Nat} (H : isAL w h l ar n cap f) (hi : 0 ≤ i ∧ i < n) (hf : f i = some y) : Ct w yJ2_get (ws_ yJ2_get cJ2_get 2 (some (FieldType.object "java/lang/Object"))) 2 43 0 0 [.ref l, jI i] h (fun v h' => v = some (.ref y) ∧ h' = h) NoX := by
  have H0 := H
  obtain ⟨H1, H2, H3, H4, H5⟩ := H
  refine Ct.of (by decide) [some (.ref l), some (jI i)] rfl (Nat.le_of_ble_eq_true rfl) (fun K C E N0 => ?_)
  refine k_iload_n C dJ2_get_0 rfl ?_
  refine k_aload_n C dJ2_get_1 rfl ?_
  refine k_get C fg_J2_48 dJ2_get_2 (by assumption) (by rfl) ?_
  refine kx_S C rfl ms_J2_118 dJ2_get_5 ((c_checkIndex (i := i) (z := n) (by omega))) rfl rfl (Nat.le_of_ble_eq_true rfl) ⟨(Nat.le_of_ble_eq_true rfl), (Nat.le_of_ble_eq_true rfl)⟩ (by omega) (fun v h1 hp_ => ?_) (fun _ _ hx => hx.elim)
  obtain ⟨rfl, rfl⟩ := hp_
  refine k_pop C dJ2_get_8 rfl ?_
  refine k_aload_n C dJ2_get_9 rfl ?_
  refine k_iload_n C dJ2_get_10 rfl ?_
  refine kx_V C rfl mv_J2_123 dJ2_get_11 ((c_elem H0 (by omega) hf)) (by assumption) rfl rfl (Nat.le_of_ble_eq_true rfl) ⟨(Nat.le_of_ble_eq_true rfl), (Nat.le_of_ble_eq_true rfl)⟩ (by omega) (fun v h1 hp_ => ?_) (fun _ _ hx => hx.elim)
  obtain ⟨rfl, rfl⟩ := hp_
  exact k_aret C (Or.inl ⟨_, rfl⟩) E dJ2_get_14 (by omega) ⟨rfl, rfl⟩
theorem c_set {w : Wd} {h : Hp} {l ar n cap : Nat} {f : Int → Option Nat} {i : Int} {y x : Nat} {c : Cel} (H : isAL w h l ar n cap f) (hi : 0 ≤ i ∧ i < n) (hf : f i = some y) (hx : h.2 x = some c) (hok : okE c = true) : Ct w yJ2_set (ws_ yJ2_set cJ2_set 4 (some (FieldType.object "java/lang/Object"))) 2 43 0 0 [.ref l, jI i, .ref x] h (fun v h' => v = some (.ref y) ∧ Put h h' ar (aR 4 cap (up f i (some x)))) NoX := by
  have H0 := H
  obtain ⟨H1, H2, H3, H4, H5⟩ := H
  refine Ct.of (by decide) [some (.ref l), some (jI i), some (.ref x), none] rfl (Nat.le_of_ble_eq_true rfl) (fun K C E N0 => ?_)
  refine k_iload_n C dJ2_set_0 rfl ?_
  refine k_aload_n C dJ2_set_1 rfl ?_
  refine k_get C fg_J2_48 dJ2_set_2 (by assumption) (by rfl) ?_
  refine kx_S C rfl ms_J2_118 dJ2_set_5 ((c_checkIndex (i := i) (z := n) (by omega))) rfl rfl (Nat.le_of_ble_eq_true rfl) ⟨(Nat.le_of_ble_eq_true rfl), (Nat.le_of_ble_eq_true rfl)⟩ (by omega) (fun v h1 hp_ => ?_) (fun _ _ hx => hx.elim)
  obtain ⟨rfl, rfl⟩ := hp_
  refine k_pop C dJ2_set_8 rfl ?_
  refine k_aload_n C dJ2_set_9 rfl ?_
  refine k_iload_n C dJ2_set_10 rfl ?_
  refine kx_V C rfl mv_J2_123 dJ2_set_11 ((c_elem H0 (by omega) hf)) (by assumption) rfl rfl (Nat.le_of_ble_eq_true rfl) ⟨(Nat.le_of_ble_eq_true rfl), (Nat.le_of_ble_eq_true rfl)⟩ (by omega) (fun v h1 hp_ => ?_) (fun _ _ hx => hx.elim)
  obtain ⟨rfl, rfl⟩ := hp_
  refine k_astore_n C dJ2_set_14 (Nat.le_of_ble_eq_true rfl) rfl ?_
  refine k_aload_n C dJ2_set_15 rfl ?_
  refine k_get C fg_J2_9 dJ2_set_16 (by assumption) (by rfl) ?_
  refine k_iload_n C dJ2_set_19 rfl ?_
  refine k_aload_n C dJ2_set_20 rfl ?_
  refine k_aast C dJ2_set_21 (by assumption) hx (okE_as hok) (by omega) (fun h1 P => ?_)
  refine k_aload_n C dJ2_set_22 rfl ?_
  exact k_aret C (Or.inl ⟨_, rfl⟩) E dJ2_set_23 (by omega) ⟨rfl, P⟩
/-- the array with more room -/
def wider (N : Nat) (f : Int → Option Nat) : Int → Option Nat := fun i => if i < N then f i else none
theorem wider_eq (N : Nat) (f : Int → Option Nat) : cpV (fun j : Nat => rf (f (j : Int))) (fun _ : Nat => rf none) 0 0 N = fun j : Nat => rf (wider N f (j : Int)) := by
  funext j
  unfold cpV wider
  by_cases hj : j < N
  · rw [if_pos ⟨Nat.zero_le _, by omega⟩, if_pos (by omega)]
    simp
  · rw [if_neg (by omega), if_neg (by omega)]
theorem c_copyOf2 {w : Wd} {h : Hp} {a N M : Nat} {f : Int → Option Nat} (ha : h.2 a = some (aR 4 N f)) (hE : isEl h N f) (hM : N ≤ M ∧ 0 < M ∧ M < 2000000) : Ct w yJ11_copyOf_2 (ws_ yJ11_copyOf_2 cJ11_copyOf_2 4 (some (FieldType.array (FieldType.object "java/lang/Object")))) 2 80 1 M [.ref a, jI M, .ref (w.ad 6)] h (fun v h' => ∃ q, v = some (.ref q) ∧ New w h h' q (aR 4 M (wider N f))) NoX := by
  refine Ct.of (by decide) [some (.ref a), some (jI M), some (.ref (w.ad 6)), none] rfl (Nat.le_of_ble_eq_true rfl) (fun K C E N0 => ?_)
  refine k_aload_n C dJ11_copyOf_2_0 rfl ?_
  refine k_ldcM C q550 dJ11_copyOf_2_1 ?_
  refine k_acmp_ne C dJ11_copyOf_2_3 (tgt := 13) (by decide) (fun h1 => ?_) (fun h2 => ?_)
  · exact absurd rfl h1
  refine k_iload_n C dJ11_copyOf_2_6 rfl ?_
  refine k_newO C q552 dJ11_copyOf_2_7 (by omega) (by omega) (fun q h1 N1 => ?_)
  refine k_goto C dJ11_copyOf_2_10 (tgt := 24) (by decide) ?_
  rw [show ((M : Int)).toNat = M by omega] at N1 ⊢
  refine k_astore_n C dJ11_copyOf_2_24 (Nat.le_of_ble_eq_true rfl) rfl ?_
  have ha1 := N1.2.2.1.2 _ _ ha
  have hq1 := N1.2.1
  refine k_aload_n C dJ11_copyOf_2_25 rfl ?_
  refine k_iconst C dJ11_copyOf_2_26 ?_
  refine k_aload_n C dJ11_copyOf_2_27 rfl ?_
  refine k_iconst C dJ11_copyOf_2_28 ?_
  refine k_aload_n C dJ11_copyOf_2_29 rfl ?_
  refine k_alen C dJ11_copyOf_2_30 (by assumption) (by rfl) ?_
  refine k_iload_n C dJ11_copyOf_2_31 rfl ?_
  refine k_min C rfl q553 dJ11_copyOf_2_32 (by omega) ⟨(Nat.le_of_ble_eq_true rfl), (Nat.le_of_ble_eq_true rfl)⟩ (by omega) ?_
  rw [show min (N : Int) (M : Int) = (N : Int) by omega]
  refine k_acopy (kd := 4) C rfl q554 dJ11_copyOf_2_35 (Or.inr rfl) ha1 hq1 (cOld_arr (f := fun _ => none) (i := 0) (by decide) (by omega)) (by omega) (fun i hi => Or.inr ⟨rfl, ?_⟩) ⟨Nat.le_of_ble_eq_true rfl, Nat.le_of_ble_eq_true rfl⟩ (fun h2 P2 => ?_)
  · obtain ⟨y, c, e1, e2, e3⟩ := hE (i : Int) (by omega) (by omega)
    refine Or.inr ⟨y, c, ?_, N1.2.2.1.2 _ _ e2, e3⟩
    show rf (f (((0 : Int).toNat + i : Nat) : Int)) = .ref y
    simp only [Int.toNat_zero, Nat.zero_add]
    rw [e1]
    rfl
  · refine k_aload_n C dJ11_copyOf_2_38 rfl ?_
    rw [show (0 : Int).toNat = 0 from rfl, Int.toNat_natCast, wider_eq] at P2
    exact k_aret C (Or.inr ⟨_, rfl⟩) E dJ11_copyOf_2_39 (by omega) ⟨q, rfl, N1.1, P2.2.1, ⟨by rw [P2.1]; exact N1.2.2.1.1, fun b d e => P2.2.2 b d (N1.2.2.1.2 b d e) (N1.ne e)⟩, N1.2.2.2.1, N1.2.2.2.2.1, by rw [P2.1]; exact N1.2.2.2.2.2⟩
theorem c_copyOf {w : Wd} {h : Hp} {a N M : Nat} {f : Int → Option Nat} (ha : h.2 a = some (aR 4 N f)) (hE : isEl h N f) (hM : N ≤ M ∧ 0 < M ∧ M < 2000000) : Ct w yJ11_copyOf (ws_ yJ11_copyOf cJ11_copyOf 2 (some (FieldType.array (FieldType.object "java/lang/Object")))) 3 103 1 M [.ref a, jI M] h (fun v h' => ∃ q, v = some (.ref q) ∧ New w h h' q (aR 4 M (wider N f))) NoX := by
  refine Ct.of (by decide) [some (.ref a), some (jI M)] rfl (Nat.le_of_ble_eq_true rfl) (fun K C E N0 => ?_)
  refine k_aload_n C dJ11_copyOf_0 rfl ?_
  refine k_iload_n C dJ11_copyOf_1 rfl ?_
  refine k_aload_n C dJ11_copyOf_2 rfl ?_
  refine k_getClass C rfl q517 dJ11_copyOf_3 ha ⟨Nat.le_of_ble_eq_true rfl, Nat.le_of_ble_eq_true rfl⟩ ?_
  refine kx_S C rfl ms_J11_300 dJ11_copyOf_6 ((c_copyOf2 ha hE hM)) rfl rfl (Nat.le_of_ble_eq_true rfl) ⟨(Nat.le_of_ble_eq_true rfl), (Nat.le_of_ble_eq_true rfl)⟩ (by omega) (fun v h1 hp_ => ?_) (fun _ _ hx => hx.elim)
  obtain ⟨q, rfl, N1⟩ := hp_
  exact k_aret C (Or.inr ⟨_, rfl⟩) E dJ11_copyOf_9 (by omega) ⟨q, rfl, N1⟩
theorem c_newLength {w : Wd} {h : Hp} {a b c : Nat} (hr : a < 1000000 ∧ b < 1000000 ∧ c < 1000000 ∧ 0 < b) : Ct w yJ9_newLength (ws_ yJ9_newLength cJ9_newLength 4 (some FieldType.int)) 1 40 0 0 [jI a, jI b, jI c] h (fun v h' => v = some (jI ((a + max b c : Nat) : Int)) ∧ h' = h) NoX := by
  refine Ct.of (by decide) [some (jI a), some (jI b), some (jI c), none] rfl (Nat.le_of_ble_eq_true rfl) (fun K C E N0 => ?_)
  refine k_iload_n C dJ9_newLength_0 rfl ?_
  refine k_iload_n C dJ9_newLength_1 rfl ?_
  refine k_iload_n C dJ9_newLength_2 rfl ?_
  refine k_max C rfl q509 dJ9_newLength_3 (by omega) ⟨(Nat.le_of_ble_eq_true rfl), (Nat.le_of_ble_eq_true rfl)⟩ (by omega) ?_
  refine k_iadd C dJ9_newLength_6 ?_
  refine k_istore_n C dJ9_newLength_7 (Nat.le_of_ble_eq_true rfl) rfl ?_
  refine k_iconst C dJ9_newLength_8 ?_
  refine k_iload_n C dJ9_newLength_9 rfl ?_
  rw [show (a : Int) + max (b : Int) (c : Int) = ((a + max b c : Nat) : Int) by omega]
  refine k_icmp_ge C dJ9_newLength_10 (tgt := 21) (by decide) (by omega) (fun h1 => ?_) (fun h2 => ?_)
  · omega
  refine k_iload_n C dJ9_newLength_13 rfl ?_
  refine k_ldc (z := 2147483639) C q510 rfl dJ9_newLength_14 ?_
  refine k_icmp_gt C dJ9_newLength_16 (tgt := 21) (by decide) (by omega) (fun h3 => ?_) (fun h4 => ?_)
  · omega
  refine k_iload_n C dJ9_newLength_19 rfl ?_
  exact k_iret C E dJ9_newLength_20 (by omega) ⟨rfl, rfl⟩
/-- the next capacity -/
def ncap (cap : Nat) : Nat := if cap = 0 then 10 else cap + max 1 (cap / 2)
theorem ncap_gt (cap : Nat) : cap < ncap cap := by unfold ncap; split <;> omega
theorem ncap_le {cap : Nat} (h : cap < 1000000) : ncap cap < 1500001 := by unfold ncap; split <;> omega
theorem c_grow2 {w : Wd} {h : Hp} {l ar n : Nat} {f : Int → Option Nat} {v0 v2 : Value} (hl0 : h.2 l = some (.inl (14, [v0, .ref ar, v2]))) (ha0 : h.2 ar = some (aR 4 n f)) (hn : n < 1000000) (h5 : n = 0 → ar = w.ad 5) (hE : isEl h n f) : Ct w yJ2_grow_2 (ws_ yJ2_grow_2 cJ2_grow_2 4 (some (FieldType.array (FieldType.object "java/lang/Object")))) 4 124 1 (ncap n) [.ref l, jI ((n + 1 : Nat) : Int)] h (fun v h' => ∃ (q : Nat) (g : Int → Option Nat), v = some (.ref q) ∧ h.2 q = none ∧ h'.2 q = some (aR 4 (ncap n) g) ∧ (∀ i : Int, 0 ≤ i → i < n → g i = f i) ∧ h'.2 l = some (.inl (14, [v0, .ref q, v2])) ∧ Upd h h' [l]) NoX := by
  refine Ct.of (by decide) [some (.ref l), some (jI ((n + 1 : Nat) : Int)), none, none] rfl (Nat.le_of_ble_eq_true rfl) (fun K C E N0 => ?_)
  refine k_aload_n C dJ2_grow_2_0 rfl ?_
  refine k_get C fg_J2_9 dJ2_grow_2_1 (by assumption) (by rfl) ?_
  refine k_alen C dJ2_grow_2_4 (by assumption) (by rfl) ?_
  refine k_istore_n C dJ2_grow_2_5 (Nat.le_of_ble_eq_true rfl) rfl ?_
  refine k_iload_n C dJ2_grow_2_6 rfl ?_
  refine k_if_gt C dJ2_grow_2_7 (tgt := 20) (by decide) (by omega) (fun h1 => ?_) (fun h2 => ?_)
  · refine k_iload_n C dJ2_grow_2_20 rfl ?_
    refine k_iload_n C dJ2_grow_2_21 rfl ?_
    refine k_iload_n C dJ2_grow_2_22 rfl ?_
    refine k_isub C dJ2_grow_2_23 ?_
    have hn1 := ncap_gt n
    have hn2 := ncap_le hn
    refine k_iload_n C dJ2_grow_2_24 rfl ?_
    refine k_iconst C dJ2_grow_2_25 ?_
    refine k_ishr C dJ2_grow_2_26 (by omega) ?_
    have e1 : ((n + 1 : Nat) : Int) - (n : Int) = ((1 : Nat) : Int) := by omega
    have e2 : (n : Int) / 2 ^ (1 : Int).toNat = ((n / 2 : Nat) : Int) := by rw [Int.natCast_ediv]; rfl
    rw [e1, e2]
    refine kx_S C rfl ms_J2_73 dJ2_grow_2_27 ((c_newLength (a := n) (b := 1) (c := n / 2) (by omega))) rfl rfl (Nat.le_of_ble_eq_true rfl) ⟨(Nat.le_of_ble_eq_true rfl), (Nat.le_of_ble_eq_true rfl)⟩ (by omega) (fun v h1 hp_ => ?_) (fun _ _ hx => hx.elim)
    obtain ⟨rfl, rfl⟩ := hp_
    have e3 : n + max 1 (n / 2) = ncap n := by unfold ncap; rw [if_neg (by omega)]
    rw [e3]
    refine k_istore_n C dJ2_grow_2_30 (Nat.le_of_ble_eq_true rfl) rfl ?_
    refine k_aload_n C dJ2_grow_2_31 rfl ?_
    refine k_aload_n C dJ2_grow_2_32 rfl ?_
    refine k_get C fg_J2_9 dJ2_grow_2_33 (by assumption) (by rfl) ?_
    refine k_iload_n C dJ2_grow_2_36 rfl ?_
    refine kx_S C rfl ms_J2_66 dJ2_grow_2_37 ((c_copyOf ha0 hE (M := ncap n) (by omega))) rfl rfl (Nat.le_of_ble_eq_true rfl) ⟨(Nat.le_of_ble_eq_true rfl), (Nat.le_of_ble_eq_true rfl)⟩ (by omega) (fun v h2 hp_ => ?_) (fun _ _ hx => hx.elim)
    obtain ⟨q, rfl, N1⟩ := hp_
    have hl1 := N1.2.2.1.2 _ _ hl0
    refine k_dup_x1 C dJ2_grow_2_40 rfl rfl ?_
    refine k_put C fg_J2_9 ft_14_1 dJ2_grow_2_41 (by assumption) rfl rfl rfl (fun h3 P => ?_)
    exact k_aret C (Or.inr ⟨_, rfl⟩) E dJ2_grow_2_44 (by omega) ⟨q, wider n f, rfl, N1.1, P.2.2 _ _ N1.2.1 (Ne.symm (N1.ne hl0)), fun i _ hi => if_pos hi, P.2.1, ⟨by rw [P.1]; exact N1.2.2.1.1, fun b d e hb => P.2.2 _ _ (N1.2.2.1.2 _ _ e) (by simpa using hb)⟩⟩
  · have hn0 : n = 0 := by omega
    have har := h5 hn0
    subst hn0
    subst har
    refine k_aload_n C dJ2_grow_2_10 rfl ?_
    refine k_get C fg_J2_9 dJ2_grow_2_11 (by assumption) (by rfl) ?_
    refine k_gets (i0 := 5) C (by simp [stAll]) q86 dJ2_grow_2_14 ?_
    refine k_acmp_eq C dJ2_grow_2_17 (tgt := 45) (by decide) (fun h3 => ?_) (fun h4 => ?_)
    · refine k_aload_n C dJ2_grow_2_45 rfl ?_
      refine k_bipush C dJ2_grow_2_46 (by decide) ?_
      refine k_iload_n C dJ2_grow_2_48 rfl ?_
      refine k_max C rfl q555 dJ2_grow_2_49 (by omega) ⟨(Nat.le_of_ble_eq_true rfl), (Nat.le_of_ble_eq_true rfl)⟩ (by omega) ?_
      rw [show max (10 : Int) ((0 + 1 : Nat) : Int) = 10 by omega]
      refine k_newO C q556 dJ2_grow_2_52 (by omega) ⟨by omega, by show 0 + 10 ≤ ncap 0; decide⟩ (fun q h1 N1 => ?_)
      have hl1 := N1.2.2.1.2 _ _ hl0
      refine k_dup_x1 C dJ2_grow_2_55 rfl rfl ?_
      refine k_put C fg_J2_9 ft_14_1 dJ2_grow_2_56 (by assumption) rfl rfl rfl (fun h3 P => ?_)
      exact k_aret C (Or.inr ⟨_, rfl⟩) E dJ2_grow_2_59 ⟨by omega, by show 0 + 10 ≤ ncap 0; decide⟩ ⟨q, fun _ => none, rfl, N1.1, P.2.2 _ _ N1.2.1 (Ne.symm (N1.ne hl0)), fun i h0 hi => absurd hi (by omega), P.2.1, ⟨by rw [P.1]; exact N1.2.2.1.1, fun b d e hb => P.2.2 _ _ (N1.2.2.1.2 _ _ e) (by simpa using hb)⟩⟩
    · exact absurd rfl h4
theorem c_grow {w : Wd} {h : Hp} {l ar n : Nat} {f : Int → Option Nat} {v0 : Value} (hl0 : h.2 l = some (.inl (14, [v0, .ref ar, jI n]))) (ha0 : h.2 ar = some (aR 4 n f)) (hn : n < 1000000) (h5 : n = 0 → ar = w.ad 5) (hE : isEl h n f) : Ct w yJ2_grow (ws_ yJ2_grow cJ2_grow 1 (some (FieldType.array (FieldType.object "java/lang/Object")))) 5 147 1 (ncap n) [.ref l] h (fun v h' => ∃ (q : Nat) (g : Int → Option Nat), v = some (.ref q) ∧ h.2 q = none ∧ h'.2 q = some (aR 4 (ncap n) g) ∧ (∀ i : Int, 0 ≤ i → i < n → g i = f i) ∧ h'.2 l = some (.inl (14, [v0, .ref q, jI n])) ∧ Upd h h' [l]) NoX := by
  refine Ct.of (by decide) [some (.ref l)] rfl (Nat.le_of_ble_eq_true rfl) (fun K C E N0 => ?_)
  refine k_aload_n C dJ2_grow_0 rfl ?_
  refine k_aload_n C dJ2_grow_1 rfl ?_
  refine k_get C fg_J2_48 dJ2_grow_2 (by assumption) (by rfl) ?_
  refine k_iconst C dJ2_grow_5 ?_
  refine k_iadd C dJ2_grow_6 ?_
  rw [show (n : Int) + 1 = ((n + 1 : Nat) : Int) by omega]
  refine kx_V C rfl mv_J2_69 dJ2_grow_7 ((c_grow2 hl0 ha0 hn h5 hE)) (by assumption) rfl rfl (Nat.le_of_ble_eq_true rfl) ⟨(Nat.le_of_ble_eq_true rfl), (Nat.le_of_ble_eq_true rfl)⟩ (by omega) (fun v h1 hp_ => ?_) (fun _ _ hx => hx.elim)
  obtain ⟨q, g, rfl, r1, r2, r3, r4, r5⟩ := hp_
  exact k_aret C (Or.inr ⟨_, rfl⟩) E dJ2_grow_10 (by omega) ⟨q, g, rfl, r1, r2, r3, r4, r5⟩
/-- what an add makes -/
def gcC (n cap : Nat) : Nat := if n = cap then 1 else 0
def gcS (n cap : Nat) : Nat := if n = cap then ncap cap else 0
def ncp (n cap : Nat) : Nat := if n = cap then ncap cap else cap
theorem c_add2 {w : Wd} {h : Hp} {l ar n cap y : Nat} {f : Int → Option Nat} {v0 : Value} {c : Cel} (hl0 : h.2 l = some (.inl (14, [v0, .ref ar, jI n]))) (ha0 : h.2 ar = some (aR 4 cap f)) (hn : n ≤ cap ∧ cap < 1000000) (h5 : cap = 0 → ar = w.ad 5) (hE : isEl h n f) (hy : h.2 y = some c) (hok : okE c = true) (hyl : y ≠ l) (hya : y ≠ ar) :
    Ct w yJ2_add_2 (ws_ yJ2_add_2 cJ2_add_2 4 none) 6 167 (gcC n cap) (gcS n cap) [.ref l, .ref y, .ref ar, jI n] h (fun v h' => v = none ∧ ∃ (q : Nat) (g : Int → Option Nat), h'.2 q = some (aR 4 (ncp n cap) g) ∧ (∀ i : Int, 0 ≤ i → i < n → g i = f i) ∧ g n = some y ∧ h'.2 l = some (.inl (14, [v0, .ref q, jI ((n + 1 : Nat) : Int)])) ∧ ((n < cap ∧ q = ar ∧ Upd h h' [l, ar]) ∨ (n = cap ∧ h.2 q = none ∧ Upd h h' [l]))) NoX := by
  have hla : l ≠ ar := ne_cel hl0 ha0 ne_ao
  refine Ct.of (by decide) [some (.ref l), some (.ref y), some (.ref ar), some (jI n)] rfl (Nat.le_of_ble_eq_true rfl) (fun K C E N0 => ?_)
  refine k_iload_n C dJ2_add_2_0 rfl ?_
  refine k_aload_n C dJ2_add_2_1 rfl ?_
  refine k_alen C dJ2_add_2_2 (by assumption) (by rfl) ?_
  refine k_icmp_ne C dJ2_add_2_3 (tgt := 11) (by decide) (by omega) (fun h1 => ?_) (fun h2 => ?_)
  · have hlt : n < cap := by omega
    refine k_aload_n C dJ2_add_2_11 rfl ?_
    refine k_iload_n C dJ2_add_2_12 rfl ?_
    refine k_aload_n C dJ2_add_2_13 rfl ?_
    refine k_aast C dJ2_add_2_14 (by assumption) hy (okE_as hok) (by omega) (fun h3 P => ?_)
    have hl1 := P.2.2 _ _ hl0 hla
    refine k_aload_n C dJ2_add_2_15 rfl ?_
    refine k_iload_n C dJ2_add_2_16 rfl ?_
    refine k_iconst C dJ2_add_2_17 ?_
    refine k_iadd C dJ2_add_2_18 ?_
    refine k_put C fg_J2_48 ft_14_2 dJ2_add_2_19 (by assumption) rfl rfl rfl (fun h4 P2 => ?_)
    exact k_vret C E dJ2_add_2_22 (by omega) ⟨rfl, ar, up f n (some y), by rw [show ncp n cap = cap by unfold ncp; rw [if_neg (by omega)]]; exact P2.2.2 _ _ P.2.1 (Ne.symm hla), fun i h0 hi => up_ne (by omega), up_at, by rw [show ((n + 1 : Nat) : Int) = (n : Int) + 1 by omega]; exact P2.2.1, Or.inl ⟨hlt, rfl, ⟨by rw [P2.1, P.1]; exact Nat.le_refl _, fun b d e hb => P2.2.2 _ _ (P.2.2 _ _ e (by simp at hb; exact hb.2)) (by simp at hb; exact hb.1)⟩⟩⟩
  · have hnc : n = cap := by omega
    subst hnc
    refine k_aload_n C dJ2_add_2_6 rfl ?_
    refine kx_V C rfl mv_J2_129 dJ2_add_2_7 ((c_grow hl0 ha0 hn.2 h5 hE)) (by assumption) rfl rfl (Nat.le_of_ble_eq_true rfl) ⟨(Nat.le_of_ble_eq_true rfl), (Nat.le_of_ble_eq_true rfl)⟩ ⟨by unfold gcC; rw [if_pos rfl]; omega, by unfold gcS; rw [if_pos rfl]; omega⟩ (fun v h1 hp_ => ?_) (fun _ _ hx => hx.elim)
    obtain ⟨q, g, rfl, r1, r2, r3, r4, r5⟩ := hp_
    have hy1 := r5.2 _ _ hy (by simpa using hyl)
    have hn1 := ncap_gt n
    have hn2 := ncap_le hn.2
    refine k_astore_n C dJ2_add_2_10 (Nat.le_of_ble_eq_true rfl) rfl ?_
    refine k_aload_n C dJ2_add_2_11 rfl ?_
    refine k_iload_n C dJ2_add_2_12 rfl ?_
    refine k_aload_n C dJ2_add_2_13 rfl ?_
    refine k_aast C dJ2_add_2_14 (by assumption) hy1 (okE_as hok) (by omega) (fun h3 P => ?_)
    have hlq : l ≠ q := fun e => by rw [e, r1] at hl0; cases hl0
    have hl1 := P.2.2 _ _ r4 hlq
    refine k_aload_n C dJ2_add_2_15 rfl ?_
    refine k_iload_n C dJ2_add_2_16 rfl ?_
    refine k_iconst C dJ2_add_2_17 ?_
    refine k_iadd C dJ2_add_2_18 ?_
    refine k_put C fg_J2_48 ft_14_2 dJ2_add_2_19 (by assumption) rfl rfl rfl (fun h4 P2 => ?_)
    exact k_vret C E dJ2_add_2_22 ⟨by unfold gcC; rw [if_pos rfl]; omega, by unfold gcS; rw [if_pos rfl]; omega⟩ ⟨rfl, q, up g n (some y), by rw [show ncp n n = ncap n from if_pos rfl]; exact P2.2.2 _ _ P.2.1 (Ne.symm hlq), fun i h0 hi => (up_ne (by omega)).trans (r3 i h0 hi), up_at, by rw [show ((n + 1 : Nat) : Int) = (n : Int) + 1 by omega]; exact P2.2.1, Or.inr ⟨rfl, r1, ⟨by rw [P2.1, P.1]; exact r5.1, fun b d e hb => P2.2.2 _ _ (P.2.2 _ _ (r5.2 _ _ e hb) (fun x => by rw [x, r1] at e; cases e)) (by simpa using hb)⟩⟩⟩
/-- add: one reference more -/
theorem c_add {w : Wd} {h : Hp} {l ar n cap y : Nat} {f : Int → Option Nat} {c : Cel} (H : isAL w h l ar n cap f) (hcap : cap < 600000) (hE : isEl h n f) (hy : h.2 y = some c) (hok : okE c = true) (hyl : y ≠ l) (hya : y ≠ ar) :
    Ct w yJ2_add (ws_ yJ2_add cJ2_add 2 (some FieldType.boolean)) 7 190 (gcC n cap) (gcS n cap) [.ref l, .ref y] h (fun v h' => v = some (jI (b2i true)) ∧ ∃ (q : Nat) (g : Int → Option Nat), isAL w h' l q (n + 1) (ncp n cap) g ∧ (∀ i : Int, 0 ≤ i → i < n → g i = f i) ∧ g n = some y ∧ ((n < cap ∧ q = ar ∧ Upd h h' [l, ar]) ∨ (n = cap ∧ h.2 q = none ∧ Upd h h' [l]))) NoX := by
  obtain ⟨H1, H2, H3, H4, H5⟩ := H
  have hla : l ≠ ar := ne_cel H1 H2 ne_ao
  refine Ct.of (by decide) [some (.ref l), some (.ref y)] rfl (Nat.le_of_ble_eq_true rfl) (fun K C E N0 => ?_)
  refine k_aload_n C dJ2_add_0 rfl ?_
  refine k_dup C dJ2_add_1 rfl ?_
  refine k_get C fg_J2_63 dJ2_add_2 (by assumption) (by rfl) ?_
  refine k_iconst C dJ2_add_5 ?_
  refine k_iadd C dJ2_add_6 ?_
  refine k_put C fg_J2_63 ft_14_0 dJ2_add_7 (by assumption) rfl rfl rfl (fun h1 P => ?_)
  have hl1 := P.2.1
  have ha1 := P.2.2 _ _ H2 (Ne.symm hla)
  have hy1 := P.2.2 _ _ hy hyl
  refine k_aload_n C dJ2_add_10 rfl ?_
  refine k_aload_n C dJ2_add_11 rfl ?_
  refine k_aload_n C dJ2_add_12 rfl ?_
  refine k_get C fg_J2_9 dJ2_add_13 (by assumption) (by rfl) ?_
  refine k_aload_n C dJ2_add_16 rfl ?_
  refine k_get C fg_J2_48 dJ2_add_17 (by assumption) (by rfl) ?_
  refine kx_V C rfl mv_J2_131 dJ2_add_20 ((c_add2 (v0 := jI ((n : Int) + 1)) hl1 ha1 ⟨H3, H4⟩ H5 (hE.put P rfl) hy1 hok hyl hya)) (by assumption) rfl rfl (Nat.le_of_ble_eq_true rfl) ⟨(Nat.le_of_ble_eq_true rfl), (Nat.le_of_ble_eq_true rfl)⟩ (by omega) (fun v h2 hp_ => ?_) (fun _ _ hx => hx.elim)
  obtain ⟨rfl, q, g, r1, r2, r3, r4, r5⟩ := hp_
  refine k_iconst C dJ2_add_23 ?_
  exact k_zret C E dJ2_add_24 (by omega) ⟨rfl, q, g, ⟨by rw [show ((n + 1 : Nat) : Int) = (n : Int) + 1 by omega] at r4 ⊢; exact r4, r1, by unfold ncp; have := ncap_gt cap; split <;> omega, by unfold ncp; have := ncap_le H4; have : ncap cap ≤ cap + cap / 2 + 10 := (by unfold ncap; split <;> omega); split <;> omega, fun e => absurd e (by unfold ncp; have := ncap_gt cap; split <;> omega)⟩, r2, r3, r5.imp (fun z => ⟨z.1, z.2.1, ⟨by rw [← P.1]; exact z.2.2.1, fun b d e hb => z.2.2.2 _ _ (P.2.2 _ _ e (by simp at hb; exact hb.1)) hb⟩⟩) (fun z => ⟨z.1, P.old H1 z.2.1, ⟨by rw [← P.1]; exact z.2.2.1, fun b d e hb => z.2.2.2 _ _ (P.2.2 _ _ e (by simpa using hb)) hb⟩⟩)⟩
/-! ### iterators -/
theorem New.put {w : Wd} {h h1 h2 : Hp} {q : Nat} {c d : Cel} (N : New w h h1 q c) (P : Put h1 h2 q d) : New w h h2 q d := ⟨N.1, P.2.1, ⟨by rw [P.1]; exact N.2.2.1.1, fun b e eb => P.2.2 b e (N.2.2.1.2 b e eb) (N.ne eb)⟩, N.2.2.2.1, N.2.2.2.2.1, by rw [P.1]; exact N.2.2.2.2.2⟩
theorem c_itInit {w : Wd} {h : Hp} {t l n : Nat} {v1 v2 : Value} (ht : h.2 t = some (.inl (16, [jI 0, jI 0, jI 0, .null]))) (hl0 : h.2 l = some (.inl (14, [jI n, v1, v2]))) : Ct w yJ19_init (ws_ yJ19_init cJ19_init 2 none) 1 40 0 0 [.ref t, .ref l] h (fun v h' => v = none ∧ Put h h' t (.inl (16, [jI 0, jI (-1), jI n, .ref l]))) NoX := by
  have htl : l ≠ t := ne_cel hl0 ht (ne_cls (by decide))
  refine Ct.of (by decide) [some (.ref t), some (.ref l)] rfl (Nat.le_of_ble_eq_true rfl) (fun K C E N0 => ?_)
  refine k_aload_n C dJ19_init_0 rfl ?_
  refine k_aload_n C dJ19_init_1 rfl ?_
  refine k_putF C fg_J19_1 ft_16_3 rfl (fun r hr => by cases hr; rfl) dJ19_init_2 (by assumption) (Or.inl rfl) rfl rfl (fun h1 P1 => ?_)
  have ht1 := P1.2.1
  refine k_aload_n C dJ19_init_5 rfl ?_
  refine k_objinit C rfl q1469 q72 qobj dJ19_init_6 ⟨(Nat.le_of_ble_eq_true rfl), (Nat.le_of_ble_eq_true rfl)⟩ ?_
  refine k_aload_n C dJ19_init_9 rfl ?_
  refine k_iconst C dJ19_init_10 ?_
  refine k_put C fg_J19_13 ft_16_1 dJ19_init_11 (by assumption) rfl rfl rfl (fun h2 P2 => ?_)
  have ht2 := P2.2.1
  have hl2 := P2.2.2 _ _ (P1.2.2 _ _ hl0 htl) htl
  refine k_aload_n C dJ19_init_14 rfl ?_
  refine k_aload_n C dJ19_init_15 rfl ?_
  refine k_get C fg_J19_1 dJ19_init_16 (by assumption) (by rfl) ?_
  refine k_get C fg_J19_17 dJ19_init_19 (by assumption) (by rfl) ?_
  refine k_put C fg_J19_22 ft_16_2 dJ19_init_22 (by assumption) rfl rfl rfl (fun h3 P3 => ?_)
  exact k_vret C E dJ19_init_25 (by omega) ⟨rfl, (P1.trans P2).trans P3⟩
theorem c_iterator {w : Wd} {h : Hp} {l n : Nat} {v1 v2 : Value} (hl0 : h.2 l = some (.inl (14, [jI n, v1, v2]))) : Ct w yJ2_iterator (ws_ yJ2_iterator cJ2_iterator 1 (some (FieldType.object "java/util/Iterator"))) 2 61 1 4 [.ref l] h (fun v h' => ∃ q, v = some (.ref q) ∧ New w h h' q (.inl (16, [jI 0, jI (-1), jI n, .ref l]))) NoX := by
  refine Ct.of (by decide) [some (.ref l)] rfl (Nat.le_of_ble_eq_true rfl) (fun K C E N0 => ?_)
  refine k_new C nw_J2_267 dJ2_iterator_0 (by omega) (fun q h1 N1 => ?_)
  have hl1 := N1.2.2.1.2 _ _ hl0
  have hq1 := N1.2.1
  refine k_dup C dJ2_iterator_3 rfl ?_
  refine k_aload_n C dJ2_iterator_4 rfl ?_
  refine kx_I C rfl mi_J2_269 dJ2_iterator_5 ((c_itInit hq1 hl1)) rfl rfl (Nat.le_of_ble_eq_true rfl) ⟨(Nat.le_of_ble_eq_true rfl), (Nat.le_of_ble_eq_true rfl)⟩ (by omega) (fun v h2 hp_ => ?_) (fun _ _ hx => hx.elim)
  obtain ⟨rfl, P⟩ := hp_
  exact k_aret C (Or.inl ⟨_, rfl⟩) E dJ2_iterator_8 (by omega) ⟨q, rfl, N1.put P⟩
theorem c_hasNext {w : Wd} {h : Hp} {t l i n : Nat} {v1 v2 v3 v4 : Value} (hr : i ≤ n ∧ n < 1000000) (ht : h.2 t = some (.inl (16, [jI i, v1, v2, .ref l]))) (hl0 : h.2 l = some (.inl (14, [v3, v4, jI n]))) : Ct w yJ19_hasNext (ws_ yJ19_hasNext cJ19_hasNext 1 (some FieldType.boolean)) 0 0 0 0 [.ref t] h (fun v h' => v = some (jI (b2i (decide (i < n)))) ∧ h' = h) NoX := by
  refine Ct.of (by decide) [some (.ref t)] rfl (Nat.le_of_ble_eq_true rfl) (fun K C E N0 => ?_)
  refine k_aload_n C dJ19_hasNext_0 rfl ?_
  refine k_get C fg_J19_25 dJ19_hasNext_1 (by assumption) (by rfl) ?_
  refine k_aload_n C dJ19_hasNext_4 rfl ?_
  refine k_get C fg_J19_1 dJ19_hasNext_5 (by assumption) (by rfl) ?_
  refine k_getN C fn_J19_28 dJ19_hasNext_8 (by assumption) (by rfl) ?_
  refine k_icmp_eq C dJ19_hasNext_11 (tgt := 18) (by decide) (by omega) (fun h1 => ?_) (fun h2 => ?_)
  · refine k_iconst C dJ19_hasNext_18 ?_
    exact k_zret (b := false) C E dJ19_hasNext_19 (by omega) ⟨by rw [decide_eq_false (show ¬ i < n by omega)], rfl⟩
  · refine k_iconst C dJ19_hasNext_14 ?_
    refine k_goto C dJ19_hasNext_15 (tgt := 19) (by decide) ?_
    exact k_zret (b := true) C E dJ19_hasNext_19 (by omega) ⟨by rw [decide_eq_true (show i < n by omega)], rfl⟩
theorem c_comod {w : Wd} {h : Hp} {t l n : Nat} {v0 v1 v3 v4 : Value} (hr : n < 1000000) (ht : h.2 t = some (.inl (16, [v0, v1, jI n, .ref l]))) (hl0 : h.2 l = some (.inl (14, [jI n, v3, v4]))) : Ct w yJ19_checkForComodification (ws_ yJ19_checkForComodification cJ19_checkForComodification 1 none) 0 0 0 0 [.ref t] h (fun v h' => v = none ∧ h' = h) NoX := by
  refine Ct.of (by decide) [some (.ref t)] rfl (Nat.le_of_ble_eq_true rfl) (fun K C E N0 => ?_)
  refine k_aload_n C dJ19_checkForComodification_0 rfl ?_
  refine k_get C fg_J19_1 dJ19_checkForComodification_1 (by assumption) (by rfl) ?_
  refine k_get C fg_J19_17 dJ19_checkForComodification_4 (by assumption) (by rfl) ?_
  refine k_aload_n C dJ19_checkForComodification_7 rfl ?_
  refine k_get C fg_J19_22 dJ19_checkForComodification_8 (by assumption) (by rfl) ?_
  refine k_icmp_eq C dJ19_checkForComodification_11 (tgt := 22) (by decide) (by omega) (fun h1 => ?_) (fun h2 => ?_)
  · exact k_vret C E dJ19_checkForComodification_22 (by omega) ⟨rfl, rfl⟩
  · exact absurd rfl h2
theorem c_next {w : Wd} {h : Hp} {t l ar i n cap y : Nat} {f : Int → Option Nat} {v1 : Value} (H : isAL w h l ar n cap f) (hi : i < n) (hf : f i = some y) (ht : h.2 t = some (.inl (16, [jI i, v1, jI n, .ref l]))) : Ct w yJ19_next (ws_ yJ19_next cJ19_next 3 (some (FieldType.object "java/lang/Object"))) 1 20 0 0 [.ref t] h (fun v h' => v = some (.ref y) ∧ Put h h' t (.inl (16, [jI ((i + 1 : Nat) : Int), jI i, jI n, .ref l]))) NoX := by
  obtain ⟨H1, H2, H3, H4, H5⟩ := H
  have hta : ar ≠ t := ne_cel H2 ht ne_oa
  refine Ct.of (by decide) [some (.ref t), none, none] rfl (Nat.le_of_ble_eq_true rfl) (fun K C E N0 => ?_)
  refine k_aload_n C dJ19_next_0 rfl ?_
  refine kx_V C rfl mv_J19_31 dJ19_next_1 ((c_comod (by omega) ht H1)) (by assumption) rfl rfl (Nat.le_of_ble_eq_true rfl) ⟨(Nat.le_of_ble_eq_true rfl), (Nat.le_of_ble_eq_true rfl)⟩ (by omega) (fun v h1 hp_ => ?_) (fun _ _ hx => hx.elim)
  obtain ⟨rfl, rfl⟩ := hp_
  refine k_aload_n C dJ19_next_4 rfl ?_
  refine k_get C fg_J19_25 dJ19_next_5 (by assumption) (by rfl) ?_
  refine k_istore_n C dJ19_next_8 (Nat.le_of_ble_eq_true rfl) rfl ?_
  refine k_iload_n C dJ19_next_9 rfl ?_
  refine k_aload_n C dJ19_next_10 rfl ?_
  refine k_get C fg_J19_1 dJ19_next_11 (by assumption) (by rfl) ?_
  refine k_getN C fn_J19_28 dJ19_next_14 (by assumption) (by rfl) ?_
  refine k_icmp_lt C dJ19_next_17 (tgt := 28) (by decide) (by omega) (fun h1 => ?_) (fun h2 => ?_)
  · refine k_aload_n C dJ19_next_28 rfl ?_
    refine k_get C fg_J19_1 dJ19_next_29 (by assumption) (by rfl) ?_
    refine k_get C fg_J19_37 dJ19_next_32 (by assumption) (by rfl) ?_
    refine k_astore_n C dJ19_next_35 (Nat.le_of_ble_eq_true rfl) rfl ?_
    refine k_iload_n C dJ19_next_36 rfl ?_
    refine k_aload_n C dJ19_next_37 rfl ?_
    refine k_alen C dJ19_next_38 (by assumption) (by rfl) ?_
    refine k_icmp_lt C dJ19_next_39 (tgt := 50) (by decide) (by omega) (fun h3 => ?_) (fun h4 => ?_)
    · refine k_aload_n C dJ19_next_50 rfl ?_
      refine k_iload_n C dJ19_next_51 rfl ?_
      refine k_iconst C dJ19_next_52 ?_
      refine k_iadd C dJ19_next_53 ?_
      refine k_put C fg_J19_25 ft_16_0 dJ19_next_54 (by assumption) rfl rfl rfl (fun h1 P1 => ?_)
      have ht1 := P1.2.1
      refine k_aload_n C dJ19_next_57 rfl ?_
      refine k_aload_n C dJ19_next_58 rfl ?_
      refine k_iload_n C dJ19_next_59 rfl ?_
      refine k_dup_x1 C dJ19_next_60 rfl rfl ?_
      refine k_put C fg_J19_13 ft_16_1 dJ19_next_61 (by assumption) rfl rfl rfl (fun h2 P2 => ?_)
      have ha2 := P2.2.2 _ _ (P1.2.2 _ _ H2 hta) hta
      refine k_aald C dJ19_next_64 (by assumption) (by rfl) (by rfl) (by omega) hf ?_
      exact k_aret C (Or.inl ⟨_, rfl⟩) E dJ19_next_65 (by omega) ⟨rfl, by have := P1.trans P2; rw [show ((i + 1 : Nat) : Int) = (i : Int) + 1 by omega]; exact this⟩
    · omega
  · omega
theorem gcC_lt {n cap : Nat} (h : n < cap) : gcC n cap = 0 := if_neg (by omega)
theorem gcS_lt {n cap : Nat} (h : n < cap) : gcS n cap = 0 := if_neg (by omega)
theorem ncp_lt {n cap : Nat} (h : n < cap) : ncp n cap = cap := if_neg (by omega)
