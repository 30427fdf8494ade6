/-! ===== the model: amend ===== -/
set_option maxRecDepth 100000
theorem stepM.pre {w : Wd} {h h1 h' : Hp} {m : Nat} {L : ML} {σ σ' : Sg} {th : Int} {s : Int64} {c : Cel} (P : Put h h1 m c) (h0 : h.2 m ≠ none) (T : stepM w h1 h' m L σ σ' th s) : stepM w h h' m L σ σ' th s := by
  obtain ⟨L', t1, t2, t3, t4⟩ := T
  refine ⟨L', t1, t2, (P.upd.updP (P := ownM m L σ.n) (fun y hy => Or.inl (by simpa using hy))).trans t3 (fun y hy => Or.inl hy), fun q hq => (t4 q hq).imp id (fun z => ?_)⟩
  cases e : h.2 q with
  | none => rfl
  | some d =>
    by_cases qm : q = m
    · rw [qm, P.2.1] at z; cases z
    · rw [P.2.2 _ _ e qm] at z; cases z
theorem refK_le (σ : Sg) (i t b y v x : Int) (fl : Bool) : refK σ i t b y v x fl ≤ 3 := by
  unfold refK
  repeat' split
  all_goals omega
theorem refK_ok {σ : Sg} {i t b y v x : Int} {fl : Bool} (h : refK σ i t b y v x fl = 0) : cellOk σ i t b = true := by
  cases e : cellOk σ i t b with
  | true => rfl
  | false =>
    unfold refK at h
    rw [e] at h
    cases h
theorem kindN_i32 {mc : Mch} (h : MchOk mc) : i32 (kindN mc) := by
  unfold kindN i32
  have h2 := h.2.1
  cases e : mc.2.1 with
  | none => show _ ≤ (-1 : Int) ∧ (-1 : Int) < _; omega
  | some κ =>
    have := h2 κ e
    show _ ≤ (κ : Int) ∧ (κ : Int) < _
    omega
theorem c_mAmendX {w : Wd} {h : Hp} {m : Nat} {L : ML} {σ : Sg} {th i t b y v x : Int} {s : Int64} (H : isMo w h m L σ th s) (hsep : sepM L σ.n σ.k) (hσ : SgOk σ) (hi : i32 i) (ht : i32 t) (hb : i32 b) (hy : i32 y) (hv : i32 v) (hx : i32 x) : Ct w yX3_amend (ws_ yX3_amend cX3_amend 7 (some FieldType.boolean)) 4 92 1 3 [.ref m, jI i, jI t, jI b, jI y, jI v, jI x] h (fun r h' => ∃ z : Bool, r = some (jI (b2i z)) ∧ (refK σ i t b y v x false = 0 → z = (σ.ms i.toNat).2.1.isSome ∧ stepM w h h' m L σ (putG σ i.toNat (amdM (σ.ms i.toNat) (2 * t + b) (y, v, x)) σ.tk σ.rf (σ.bk + (if (σ.ms i.toNat).2.1.isSome then 1 else 0))) 0 s) ∧ (refK σ i t b y v x false ≠ 0 → stepM w h h' m L σ σ (refK σ i t b y v x false : Nat) s)) NoX := by
  have hm := H.1
  have hle := refK_le σ i t b y v x false
  refine Ct.of (by decide) [some (.ref m), some (jI i), some (jI t), some (jI b), some (jI y), some (jI v), some (jI x)] rfl (Nat.le_of_ble_eq_true rfl) (fun K C E N0 => ?_)
  refine k_aload_n C dX3_amend_0 rfl ?_
  refine k_aload_n C dX3_amend_1 rfl ?_
  refine k_iload_n C dX3_amend_2 rfl ?_
  refine k_iload_n C dX3_amend_3 rfl ?_
  refine k_iload_n C dX3_amend_4 rfl ?_
  refine k_iload C dX3_amend_5 rfl ?_
  refine k_iload C dX3_amend_7 rfl ?_
  refine k_iload C dX3_amend_9 rfl ?_
  refine k_iconst C dX3_amend_11 ?_
  refine kx_V C rfl mv_X3_70 dX3_amend_12 ((c_mRefused (fl := false) H hσ hi ht hb hy hv hx)) (by assumption) rfl rfl (Nat.le_of_ble_eq_true rfl) ⟨(Nat.le_of_ble_eq_true rfl), (Nat.le_of_ble_eq_true rfl)⟩ (by omega) (fun r1 k1 hp_ => ?_) (fun _ _ hx => hx.elim)
  obtain ⟨rfl, rfl⟩ := hp_
  have hok0 : refK σ i t b y v x false = 0 → cellOk σ i t b = true := refK_ok
  generalize refK σ i t b y v x false = c at *
  refine k_put C fg_X3_19 ft_2_0 dX3_amend_15 (by assumption) rfl rfl rfl (fun h1 P1 => ?_)
  have H1 := H.own P1
  have hm1 := H1.1
  have U1 := P1.upd
  refine k_aload_n C dX3_amend_18 rfl ?_
  refine k_get C fg_X3_19 dX3_amend_19 (by assumption) (by rfl) ?_
  refine k_if_ne C dX3_amend_22 (tgt := 55) (by decide) (by omega) (fun g1 => ?_) (fun g2 => ?_)
  · refine k_iconst C dX3_amend_55 ?_
    exact k_zret (b := false) C E dX3_amend_56 (by omega) ⟨false, rfl, fun z => absurd z (by omega), fun _ => q_step H1 hsep U1⟩
  · have c0 : c = 0 := by omega
    subst c0
    have ok1 := of_decide_eq_true (hok0 rfl)
    have hok : mchOk σ i = true := decide_eq_true ok1.1
    obtain ⟨f, A, hin, hf, M⟩ := H1.at hok
    have mok := hσ.2.2.1 i.toNat (by omega)
    have hT2 := mok.1.2.1
    have hbk := hσ.2.2.2.2
    have l1 := A.1
    have M1 := M.1
    refine k_aload_n C dX3_amend_25 rfl ?_
    refine k_aload_n C dX3_amend_26 rfl ?_
    refine k_get C fg_X3_10 dX3_amend_27 (by assumption) (by rfl) ?_
    refine k_iload_n C dX3_amend_30 rfl ?_
    refine kx_V C rfl mv_X3_48 dX3_amend_31 ((c_get A hin hf)) (by assumption) rfl rfl (Nat.le_of_ble_eq_true rfl) ⟨(Nat.le_of_ble_eq_true rfl), (Nat.le_of_ble_eq_true rfl)⟩ (by omega) (fun r2 k1 hp_ => ?_) (fun _ _ hx => hx.elim)
    obtain ⟨rfl, rfl⟩ := hp_
    refine k_castO C ck_X3_35_5 dX3_amend_34 (by assumption) ?_
    refine k_iload_n C dX3_amend_37 rfl ?_
    refine k_iload_n C dX3_amend_38 rfl ?_
    refine k_iload C dX3_amend_39 rfl ?_
    refine k_iload C dX3_amend_41 rfl ?_
    refine k_iload C dX3_amend_43 rfl ?_
    refine kx_V C rfl mv_X3_74 dX3_amend_45 ((c_mPut H1 hsep (by omega) (kindN_i32 mok) (by omega) (by omega) (by omega) (by omega))) (by assumption) rfl rfl (Nat.le_of_ble_eq_true rfl) ⟨(Nat.le_of_ble_eq_true rfl), (Nat.le_of_ble_eq_true rfl)⟩ (by omega) (fun r3 h3 hp_ => ?_) (fun _ _ hx => hx.elim)
    obtain ⟨rfl, st⟩ := hp_
    have st0 := st.pre P1 (by rw [hm]; exact fun z => by cases z)
    cases hs : (σ.ms i.toNat).2.1.isSome with
    | true =>
      rw [hs] at st0 E
      refine k_ifeq_b C dX3_amend_48 (tgt := 55) (by decide) (fun z => by cases z) (fun _ => ?_)
      refine k_iconst C dX3_amend_51 ?_
      refine k_goto C dX3_amend_52 (tgt := 56) (by decide) ?_
      exact k_zret (b := true) C E dX3_amend_56 (by omega) ⟨true, rfl, fun _ => ⟨rfl, st0⟩, fun z => absurd rfl z⟩
    | false =>
      rw [hs] at st0 E
      refine k_ifeq_b C dX3_amend_48 (tgt := 55) (by decide) (fun _ => ?_) (fun z => by cases z)
      refine k_iconst C dX3_amend_55 ?_
      exact k_zret (b := false) C E dX3_amend_56 (by omega) ⟨false, rfl, fun _ => ⟨rfl, st0⟩, fun z => absurd rfl z⟩
