/-! ===== backward rows ===== -/
set_option maxRecDepth 100000
/-- a state, a place, what is known -/
abbrev Rw : Type := Int × Int × (Int → Int)
def RwOk (T : Tb) (d : Nat) (r : Rw) : Prop := (0 ≤ r.1 ∧ r.1 < T.1) ∧ (-(d : Int) ≤ r.2.1 ∧ r.2.1 ≤ d) ∧ ∀ j, -1 ≤ r.2.2 j ∧ r.2.2 j ≤ 1
/-- as it was ahead of cell k, which tells ru -/
def stepR (r : Rw) (k : Int) (ru : Ru) : Option Rw := if ru.2.2 ≠ r.1 ∨ (r.2.2 (r.2.1 - ru.2.1) ≠ -1 ∧ r.2.2 (r.2.1 - ru.2.1) ≠ ru.1) then none else some (k / 2, r.2.1 - ru.2.1, up r.2.2 (r.2.1 - ru.2.1) (k % 2))
theorem stepR_ok {T : Tb} {d : Nat} {r r' : Rw} {k : Int} {ru : Ru} (H : RwOk T d r) (hk : 0 ≤ k ∧ k < 2 * T.1) (hu : RuOk T.1 ru) (h : stepR r k ru = some r') : RwOk T (d + 1) r' := by
  obtain ⟨h1, h2, h3⟩ := H
  obtain ⟨u1, u2, u3, u4⟩ := hu
  unfold stepR at h
  split at h
  · cases h
  · have e := Option.some.inj h
    subst e
    refine ⟨by dsimp only; omega, by dsimp only; omega, fun j => ?_⟩
    unfold up
    dsimp only
    split
    · omega
    · exact h3 j
def isRw (h : Hp) (o q : Nat) (r : Rw) : Prop := h.2 o = some (.inl (11, [jI r.1, jI r.2.1, .ref q])) ∧ ∃ g : Int → Int, h.2 q = some (aI 0 15 g) ∧ ∀ j : Int, -7 ≤ j → j ≤ 7 → g (7 + j) = r.2.2 j
theorem isRw.upd {h h' : Hp} {o q : Nat} {r : Rw} {S : List Nat} (U : Upd h h' S) (h1 : o ∉ S) (h2 : q ∉ S) (H : isRw h o q r) : isRw h' o q r := by
  obtain ⟨e1, g, e2, e3⟩ := H
  exact ⟨U.2 _ _ e1 h1, g, U.2 _ _ e2 h2, e3⟩
theorem isRw.ext {h h' : Hp} {o q : Nat} {r : Rw} (U : Ext h h') (H : isRw h o q r) : isRw h' o q r := by
  obtain ⟨e1, g, e2, e3⟩ := H
  exact ⟨U.2 _ _ e1, g, U.2 _ _ e2, e3⟩
theorem c_rwInit {w : Wd} {h : Hp} {o : Nat} {s p : Int} (ho : h.2 o = some (.inl (11, [jI 0, jI 0, .null]))) : Ct w yX12_init (ws_ yX12_init cX12_init 4 none) 1 40 1 15 [.ref o, jI s, jI p] h (fun v h' => v = none ∧ ∃ q, h.2 q = none ∧ isRw h' o q (s, p, fun _ => -1) ∧ Upd h h' [o]) NoX := by
  refine Ct.of (by decide) [some (.ref o), some (jI s), some (jI p), none] rfl (Nat.le_of_ble_eq_true rfl) (fun K C E N0 => ?_)
  refine k_aload_n C dX12_init_0 rfl ?_
  refine k_objinit C rfl q590 q72 qobj dX12_init_1 ⟨(Nat.le_of_ble_eq_true rfl), (Nat.le_of_ble_eq_true rfl)⟩ ?_
  refine k_aload_n C dX12_init_4 rfl ?_
  refine k_bipush C dX12_init_5 (by decide) ?_
  refine k_newarr (kd := 0) (g := fun j : Nat => jI ((fun _ => 0 : Int → Int) (j : Int))) C q358 rfl rfl (fun _ => rfl) dX12_init_7 (by omega) (by decide) (by omega) (fun q h1 N1 => ?_)
  have o1 := N1.2.2.1.2 _ _ ho
  have oq := N1.ne ho
  refine k_putF C fg_X12_9 ft_11_2 rfl (fun r hr => by cases hr; rfl) dX12_init_9 (by assumption) (Or.inl rfl) rfl rfl (fun h2 P2 => ?_)
  have o2 := P2.2.1
  have q2 := P2.2.2 _ _ N1.2.1 (Ne.symm oq)
  refine k_aload_n C dX12_init_12 rfl ?_
  refine k_iload_n C dX12_init_13 rfl ?_
  refine k_putF C fg_X12_15 ft_11_0 rfl (fun r hr => by cases hr; rfl) dX12_init_14 (by assumption) (Or.inl rfl) rfl rfl (fun h3 P3 => ?_)
  have o3 := P3.2.1
  refine k_aload_n C dX12_init_17 rfl ?_
  refine k_iload_n C dX12_init_18 rfl ?_
  refine k_putF C fg_X12_19 ft_11_1 rfl (fun r hr => by cases hr; rfl) dX12_init_19 (by assumption) (Or.inl rfl) rfl rfl (fun h4 P4 => ?_)
  have Q := (P2.trans P3).trans P4
  have q4 : h4.2 q = some (aI 0 15 (fun _ => 0)) := Q.2.2 _ _ N1.2.1 (Ne.symm oq)
  have U4 : Upd h h4 [o] := (N1.2.2.1.upd [o]).trans Q.upd (fun x hx => Or.inl hx)
  have loop : ∀ (d i : Nat) (hh : Hp) (g : Int → Int), i + d = 15 → hh.2 o = some (.inl (11, [jI s, jI p, .ref q])) → hh.2 q = some (aI 0 15 g) → (∀ j : Int, 0 ≤ j → j < i → g j = -1) → Upd h hh [o] → Wk w K hh 1 15 24 [some (.ref o), some (jI s), some (jI p), some (jI (i : Nat))] [] := by
    intro d
    induction d with
    | zero =>
      intro i hh g hi h1' h2' h3' h4'
      refine k_iload_n C dX12_init_24 rfl ?_
      refine k_aload_n C dX12_init_25 rfl ?_
      refine k_get C fg_X12_9 dX12_init_26 (by assumption) (by rfl) ?_
      refine k_alen C dX12_init_29 (by assumption) (by rfl) ?_
      refine k_icmp_ge C dX12_init_30 (tgt := 46) (by decide) (by omega) (fun g1 => ?_) (fun g2 => ?_)
      · exact k_vret C E dX12_init_46 (by omega) ⟨rfl, q, N1.1, ⟨h1', g, h2', fun j j0 j1 => h3' _ (by omega) (by omega)⟩, h4'⟩
      · omega
    | succ d ih =>
      intro i hh g hi h1' h2' h3' h4'
      refine k_iload_n C dX12_init_24 rfl ?_
      refine k_aload_n C dX12_init_25 rfl ?_
      refine k_get C fg_X12_9 dX12_init_26 (by assumption) (by rfl) ?_
      refine k_alen C dX12_init_29 (by assumption) (by rfl) ?_
      refine k_icmp_ge C dX12_init_30 (tgt := 46) (by decide) (by omega) (fun g1 => ?_) (fun g2 => ?_)
      · omega
      · refine k_aload_n C dX12_init_33 rfl ?_
        refine k_get C fg_X12_9 dX12_init_34 (by assumption) (by rfl) ?_
        refine k_iload_n C dX12_init_37 rfl ?_
        refine k_iconst C dX12_init_38 ?_
        refine k_iast C dX12_init_39 (by assumption) (by omega) (fun h6 P6 => ?_)
        refine k_iinc C dX12_init_40 rfl rfl ?_
        refine k_goto C dX12_init_43 (tgt := 24) (by decide) ?_
        refine ih (i + 1) h6 _ (by omega) (P6.2.2 _ _ h1' oq) P6.2.1 (fun j j0 j1 => ?_) (h4'.trans P6.upd (fun x hx => Or.inr (by rw [show x = q by simpa using hx]; exact N1.1)))
        by_cases hj : j = i
        · rw [hj]; exact up_at
        · rw [up_ne hj]; exact h3' j j0 (by omega)
  refine k_iconst C dX12_init_22 ?_
  refine k_istore_n C dX12_init_23 (Nat.le_of_ble_eq_true rfl) rfl ?_
  exact loop 15 0 h4 _ (by omega) Q.2.1 q4 (fun j j0 j1 => absurd j1 (by omega)) U4
theorem c_rwAt {w : Wd} {h : Hp} {p : Int} : Ct w yX12_at (ws_ yX12_at cX12_at 1 (some FieldType.int)) 0 0 0 0 [jI p] h (fun v h' => v = some (jI (7 + p)) ∧ h' = h) NoX := by
  refine Ct.of (by decide) [some (jI p)] rfl (Nat.le_of_ble_eq_true rfl) (fun K C E N0 => ?_)
  refine k_iload_n C dX12_at_0 rfl ?_
  refine k_bipush C dX12_at_1 (by decide) ?_
  refine k_iadd C dX12_at_3 ?_
  refine k_iconst C dX12_at_4 ?_
  refine k_iadd C dX12_at_5 ?_
  rw [show p + 6 + 1 = 7 + p by omega]
  exact k_iret C E dX12_at_6 (by omega) ⟨rfl, rfl⟩
theorem c_rwAheadN {w : Wd} {h : Hp} {o q ra : Nat} {T : Tb} {r : Rw} {k : Int} {ru : Ru} (hT : TbOk T) (H : isRw h o q r) (hr : RwOk T 6 r) (G : isRu h ra ru) (hu : RuOk T.1 ru) (hs : stepR r k ru = none) : Ct w yX12_ahead (ws_ yX12_ahead cX12_ahead 7 (some (FieldType.object "java/util/Optional"))) 3 81 0 0 [.ref o, jI (k / 2), jI (k % 2), .ref ra] h (fun v h' => v = some (.ref (w.ad 0)) ∧ h' = h) NoX := by
  obtain ⟨H1, g, H2, H3⟩ := id H
  have hT2 := hT.2.1
  obtain ⟨h1, h2, h3⟩ := id hr
  obtain ⟨u1, u2, u3, u4⟩ := id hu
  unfold isRu at G
  have b := h3 (r.2.1 - ru.2.1)
  have eg := H3 (r.2.1 - ru.2.1) (by omega) (by omega)
  refine Ct.of (by decide) [some (.ref o), some (jI (k / 2)), some (jI (k % 2)), some (.ref ra), none, none, none] rfl (Nat.le_of_ble_eq_true rfl) (fun K C E N0 => ?_)
  refine k_aload_n C dX12_ahead_0 rfl ?_
  refine k_get C fg_X12_19 dX12_ahead_1 (by assumption) (by rfl) ?_
  refine k_aload_n C dX12_ahead_4 rfl ?_
  refine k_getN C fn_X12_22 dX12_ahead_5 (by assumption) (by rfl) ?_
  refine k_isub C dX12_ahead_8 ?_
  refine k_istore C dX12_ahead_9 (Nat.le_of_ble_eq_true rfl) rfl ?_
  refine k_aload_n C dX12_ahead_11 rfl ?_
  refine k_get C fg_X12_9 dX12_ahead_12 (by assumption) (by rfl) ?_
  refine k_iload C dX12_ahead_15 rfl ?_
  refine kx_S C rfl ms_X12_27 dX12_ahead_17 (c_rwAt) rfl rfl (Nat.le_of_ble_eq_true rfl) ⟨(Nat.le_of_ble_eq_true rfl), (Nat.le_of_ble_eq_true rfl)⟩ (by omega) (fun v kk hp_ => ?_) (fun _ _ hx => hx.elim)
  obtain ⟨rfl, rfl⟩ := hp_
  refine k_iald C dX12_ahead_20 (by assumption) (by rfl) (by omega) ?_
  rw [eg]
  refine k_istore C dX12_ahead_21 (Nat.le_of_ble_eq_true rfl) rfl ?_
  refine k_aload_n C dX12_ahead_23 rfl ?_
  refine k_getN C fn_X12_31 dX12_ahead_24 (by assumption) (by rfl) ?_
  refine k_aload_n C dX12_ahead_27 rfl ?_
  refine k_get C fg_X12_15 dX12_ahead_28 (by assumption) (by rfl) ?_
  unfold stepR at hs
  refine k_icmp_ne C dX12_ahead_31 (tgt := 49) (by decide) (by omega) (fun g1 => ?_) (fun g2 => ?_)
  · refine kx_S C rfl ms_X12_37 dX12_ahead_49 (c_opEmpty) rfl rfl (Nat.le_of_ble_eq_true rfl) ⟨(Nat.le_of_ble_eq_true rfl), (Nat.le_of_ble_eq_true rfl)⟩ (by omega) (fun v kk hp_ => ?_) (fun _ _ hx => hx.elim)
    obtain ⟨rfl, rfl⟩ := hp_
    exact k_aret C (Or.inl ⟨_, rfl⟩) E dX12_ahead_52 (by omega) ⟨rfl, rfl⟩
  · refine k_iload C dX12_ahead_34 rfl ?_
    refine k_iconst C dX12_ahead_36 ?_
    refine k_icmp_eq C dX12_ahead_37 (tgt := 53) (by decide) (by omega) (fun g3 => ?_) (fun g4 => ?_)
    · rw [if_neg (by simp [g2, g3])] at hs; cases hs
    · refine k_iload C dX12_ahead_40 rfl ?_
      refine k_aload_n C dX12_ahead_42 rfl ?_
      refine k_getN C fn_X12_34 dX12_ahead_43 (by assumption) (by rfl) ?_
      refine k_icmp_eq C dX12_ahead_46 (tgt := 53) (by decide) (by omega) (fun g5 => ?_) (fun g6 => ?_)
      · rw [if_neg (by simp [g2, g5])] at hs; cases hs
      · refine kx_S C rfl ms_X12_37 dX12_ahead_49 (c_opEmpty) rfl rfl (Nat.le_of_ble_eq_true rfl) ⟨(Nat.le_of_ble_eq_true rfl), (Nat.le_of_ble_eq_true rfl)⟩ (by omega) (fun v kk hp_ => ?_) (fun _ _ hx => hx.elim)
        obtain ⟨rfl, rfl⟩ := hp_
        exact k_aret C (Or.inl ⟨_, rfl⟩) E dX12_ahead_52 (by omega) ⟨rfl, rfl⟩
theorem c_rwAheadS {w : Wd} {h : Hp} {o q ra : Nat} {T : Tb} {r r' : Rw} {k : Int} {ru : Ru} (hT : TbOk T) (H : isRw h o q r) (hr : RwOk T 6 r) (G : isRu h ra ru) (hu : RuOk T.1 ru) (hs : stepR r k ru = some r') : Ct w yX12_ahead (ws_ yX12_ahead cX12_ahead 7 (some (FieldType.object "java/util/Optional"))) 3 81 3 19 [.ref o, jI (k / 2), jI (k % 2), .ref ra] h (fun v h' => ∃ p o' q', v = some (.ref p) ∧ isOp h' p (some o') ∧ isRw h' o' q' r' ∧ Ext h h' ∧ h.2 o' = none ∧ h.2 q' = none) NoX := by
  obtain ⟨H1, g, H2, H3⟩ := id H
  have hT2 := hT.2.1
  obtain ⟨h1, h2, h3⟩ := id hr
  obtain ⟨u1, u2, u3, u4⟩ := id hu
  unfold isRu at G
  have b := h3 (r.2.1 - ru.2.1)
  have eg := H3 (r.2.1 - ru.2.1) (by omega) (by omega)
  have er : r' = (k / 2, r.2.1 - ru.2.1, up r.2.2 (r.2.1 - ru.2.1) (k % 2)) := by
    unfold stepR at hs
    split at hs
    · cases hs
    · exact (Option.some.inj hs).symm
  have hcond : ¬ (ru.2.2 ≠ r.1 ∨ (r.2.2 (r.2.1 - ru.2.1) ≠ -1 ∧ r.2.2 (r.2.1 - ru.2.1) ≠ ru.1)) := by
    intro z
    unfold stepR at hs
    rw [if_pos z] at hs
    cases hs
  refine Ct.of (by decide) [some (.ref o), some (jI (k / 2)), some (jI (k % 2)), some (.ref ra), none, none, none] rfl (Nat.le_of_ble_eq_true rfl) (fun K C E N0 => ?_)
  refine k_aload_n C dX12_ahead_0 rfl ?_
  refine k_get C fg_X12_19 dX12_ahead_1 (by assumption) (by rfl) ?_
  refine k_aload_n C dX12_ahead_4 rfl ?_
  refine k_getN C fn_X12_22 dX12_ahead_5 (by assumption) (by rfl) ?_
  refine k_isub C dX12_ahead_8 ?_
  refine k_istore C dX12_ahead_9 (Nat.le_of_ble_eq_true rfl) rfl ?_
  refine k_aload_n C dX12_ahead_11 rfl ?_
  refine k_get C fg_X12_9 dX12_ahead_12 (by assumption) (by rfl) ?_
  refine k_iload C dX12_ahead_15 rfl ?_
  refine kx_S C rfl ms_X12_27 dX12_ahead_17 (c_rwAt) rfl rfl (Nat.le_of_ble_eq_true rfl) ⟨(Nat.le_of_ble_eq_true rfl), (Nat.le_of_ble_eq_true rfl)⟩ (by omega) (fun v kk hp_ => ?_) (fun _ _ hx => hx.elim)
  obtain ⟨rfl, rfl⟩ := hp_
  have fin : ∀ (x5 : Int), Wk w K kk 0 0 53 [some (.ref o), some (jI (k / 2)), some (jI (k % 2)), some (.ref ra), some (jI (r.2.1 - ru.2.1)), some (jI x5), none] [] := by
    intro x5
    refine k_new C nw_X12_10 dX12_ahead_53 (by omega) (fun o2 h1 N1 => ?_)
    have o1 := N1.2.1
    have o0 : kk.2 o2 = none := N1.1
    refine k_dup C dX12_ahead_56 rfl ?_
    refine k_iload_n C dX12_ahead_57 rfl ?_
    refine k_iload C dX12_ahead_58 rfl ?_
    refine kx_I C rfl mi_X12_43 dX12_ahead_60 ((c_rwInit o1)) rfl rfl (Nat.le_of_ble_eq_true rfl) ⟨(Nat.le_of_ble_eq_true rfl), (Nat.le_of_ble_eq_true rfl)⟩ (by omega) (fun v h2 hp_ => ?_) (fun _ _ hx => hx.elim)
    obtain ⟨rfl, q2, q20, R2, U2⟩ := hp_
    obtain ⟨O2, g2, Q2, V2⟩ := R2
    have E2 := U2.ext0 N1.2.2.1 (by simpa using N1.1)
    have H12 := E2.2 _ _ H1
    have H22 := E2.2 _ _ H2
    have qq : q ≠ q2 := fun z => by rw [← z, N1.2.2.1.2 _ _ H2] at q20; cases q20
    have oq2 : o2 ≠ q2 := ne_cel O2 Q2 ne_ao
    have q00 : kk.2 q2 = none := N1.2.2.1.old q20
    refine k_astore C dX12_ahead_63 (Nat.le_of_ble_eq_true rfl) rfl ?_
    refine k_aload_n C dX12_ahead_65 rfl ?_
    refine k_get C fg_X12_9 dX12_ahead_66 (by assumption) (by rfl) ?_
    refine k_iconst C dX12_ahead_69 ?_
    refine k_aload C dX12_ahead_70 rfl ?_
    refine k_get C fg_X12_9 dX12_ahead_72 (by assumption) (by rfl) ?_
    refine k_iconst C dX12_ahead_75 ?_
    refine k_aload_n C dX12_ahead_76 rfl ?_
    refine k_get C fg_X12_9 dX12_ahead_77 (by assumption) (by rfl) ?_
    refine k_alen C dX12_ahead_80 (by assumption) (by rfl) ?_
    unfold aI at H22 Q2
    refine k_acopy (kd := 0) C rfl q620 dX12_ahead_81 (Or.inl rfl) H22 Q2 (by unfold cOld; simp) (by omega) (fun i hi => Or.inl ⟨rfl, _, rfl⟩) ⟨Nat.le_of_ble_eq_true rfl, Nat.le_of_ble_eq_true rfl⟩ (fun h3 P3 => ?_)
    have eq : cpV (fun j : Nat => jI (g (j : Int))) (fun j : Nat => jI (g2 (j : Int))) (0 : Int).toNat (0 : Int).toNat ((15 : Nat) : Int).toNat = fun j : Nat => jI ((fun j : Int => if j < 15 then g j else g2 j) (j : Int)) := by
      funext j
      unfold cpV
      by_cases hj : j < 15
      · rw [if_pos (by constructor <;> simp; omega)]; simp [hj, show (j : Int) < 15 by omega]
      · rw [if_neg (by simp; omega)]; simp [show ¬ (j : Int) < 15 by omega]
    rw [eq] at P3
    have O3 := P3.2.2 _ _ O2 oq2
    have Q3 : h3.2 q2 = some (aI 0 15 (fun j : Int => if j < 15 then g j else g2 j)) := P3.2.1
    refine k_aload C dX12_ahead_84 rfl ?_
    refine k_get C fg_X12_9 dX12_ahead_86 (by assumption) (by rfl) ?_
    refine k_iload C dX12_ahead_89 rfl ?_
    refine kx_S C rfl ms_X12_27 dX12_ahead_91 (c_rwAt) rfl rfl (Nat.le_of_ble_eq_true rfl) ⟨(Nat.le_of_ble_eq_true rfl), (Nat.le_of_ble_eq_true rfl)⟩ (by omega) (fun v k2 hp_ => ?_) (fun _ _ hx => hx.elim)
    obtain ⟨rfl, rfl⟩ := hp_
    refine k_iload_n C dX12_ahead_94 rfl ?_
    refine k_iast C dX12_ahead_95 (by assumption) (by omega) (fun h4 P4 => ?_)
    have O4 := P4.2.2 _ _ O3 oq2
    refine k_aload C dX12_ahead_96 rfl ?_
    refine kx_S C rfl ms_X12_52 dX12_ahead_98 (c_opOf) rfl rfl (Nat.le_of_ble_eq_true rfl) ⟨(Nat.le_of_ble_eq_true rfl), (Nat.le_of_ble_eq_true rfl)⟩ (by omega) (fun v h5 hp_ => ?_) (fun _ _ hx => hx.elim)
    obtain ⟨p, rfl, N5⟩ := hp_
    have E4 : Ext kk h4 := P4.upd.ext0 (P3.upd.ext0 E2 (by simpa using q00)) (by simpa using q00)
    have hF : ∀ j : Int, -7 ≤ j → j ≤ 7 → up (fun j : Int => if j < 15 then g j else g2 j) (7 + (r.2.1 - ru.2.1)) (k % 2) (7 + j) = r'.2.2 j := by
      intro j j0 j1
      rw [er]
      dsimp only
      by_cases hj : j = r.2.1 - ru.2.1
      · rw [hj, up_at, up_at]
      · rw [up_ne hj, up_ne (by omega), if_pos (by omega)]
        exact H3 j j0 j1
    exact k_aret C (Or.inl ⟨_, rfl⟩) E dX12_ahead_101 (by omega) ⟨p, o2, q2, rfl, N5.2.1, ⟨by rw [er]; exact N5.2.2.1.2 _ _ O4, _, N5.2.2.1.2 _ _ P4.2.1, hF⟩, E4.trans N5.2.2.1, o0, q00⟩
  refine k_iald C dX12_ahead_20 (by assumption) (by rfl) (by omega) ?_
  rw [eg]
  refine k_istore C dX12_ahead_21 (Nat.le_of_ble_eq_true rfl) rfl ?_
  refine k_aload_n C dX12_ahead_23 rfl ?_
  refine k_getN C fn_X12_31 dX12_ahead_24 (by assumption) (by rfl) ?_
  refine k_aload_n C dX12_ahead_27 rfl ?_
  refine k_get C fg_X12_15 dX12_ahead_28 (by assumption) (by rfl) ?_
  refine k_icmp_ne C dX12_ahead_31 (tgt := 49) (by decide) (by omega) (fun g1 => ?_) (fun g2 => ?_)
  · exact absurd (Or.inl g1) hcond
  · refine k_iload C dX12_ahead_34 rfl ?_
    refine k_iconst C dX12_ahead_36 ?_
    refine k_icmp_eq C dX12_ahead_37 (tgt := 53) (by decide) (by omega) (fun g3 => ?_) (fun g4 => ?_)
    · exact fin _
    · refine k_iload C dX12_ahead_40 rfl ?_
      refine k_aload_n C dX12_ahead_42 rfl ?_
      refine k_getN C fn_X12_34 dX12_ahead_43 (by assumption) (by rfl) ?_
      refine k_icmp_eq C dX12_ahead_46 (tgt := 53) (by decide) (by omega) (fun g5 => ?_) (fun g6 => ?_)
      · exact fin _
      · exact absurd (Or.inr ⟨g4, g6⟩) hcond
