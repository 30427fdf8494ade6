/-! ===== the model: tell ===== -/
set_option maxRecDepth 100000
theorem c_mTellX {w : Wd} {h : Hp} {m : Nat} {L : ML} {σ : Sg} {th i t b y v x : Int} {s : Int64} (H : isMo w h m L σ th s) (hsep : sepM L σ.n σ.k) (hσ : SgOk σ) (hi : i32 i) (ht : i32 t) (hb : i32 b) (hy : i32 y) (hv : i32 v) (hx : i32 x) : Ct w yX3_tell (ws_ yX3_tell cX3_tell 7 (some FieldType.int)) 4 92 1 3 [.ref m, jI i, jI t, jI b, jI y, jI v, jI x] h (fun r h' => ∃ z : Int, r = some (jI z) ∧ (refK σ i t b y v x true = 0 → z = cntE (amdM (σ.ms i.toNat) (2 * t + b) (y, v, x)).1 (2 * (σ.ms i.toNat).1.1) ∧ stepM w h h' m L σ (putG σ i.toNat (amdM (σ.ms i.toNat) (2 * t + b) (y, v, x)) σ.tk σ.rf (σ.bk + (if (σ.ms i.toNat).2.1.isSome then 1 else 0))) 0 s) ∧ (refK σ i t b y v x true ≠ 0 → stepM w h h' m L σ σ (refK σ i t b y v x true : Nat) s)) NoX := by
  have hm := H.1
  have hle := refK_le σ i t b y v x true
  refine Ct.of (by decide) [some (.ref m), some (jI i), some (jI t), some (jI b), some (jI y), some (jI v), some (jI x)] rfl (Nat.le_of_ble_eq_true rfl) (fun K C E N0 => ?_)
  refine k_aload_n C dX3_tell_0 rfl ?_
  refine k_aload_n C dX3_tell_1 rfl ?_
  refine k_iload_n C dX3_tell_2 rfl ?_
  refine k_iload_n C dX3_tell_3 rfl ?_
  refine k_iload_n C dX3_tell_4 rfl ?_
  refine k_iload C dX3_tell_5 rfl ?_
  refine k_iload C dX3_tell_7 rfl ?_
  refine k_iload C dX3_tell_9 rfl ?_
  refine k_iconst C dX3_tell_11 ?_
  refine kx_V C rfl mv_X3_70 dX3_tell_12 ((c_mRefused (fl := true) H hσ hi ht hb hy hv hx)) (by assumption) rfl rfl (Nat.le_of_ble_eq_true rfl) ⟨(Nat.le_of_ble_eq_true rfl), (Nat.le_of_ble_eq_true rfl)⟩ (by omega) (fun r1 k1 hp_ => ?_) (fun _ _ hx => hx.elim)
  obtain ⟨rfl, rfl⟩ := hp_
  have hok0 : refK σ i t b y v x true = 0 → cellOk σ i t b = true := refK_ok
  generalize refK σ i t b y v x true = c at *
  refine k_put C fg_X3_19 ft_2_0 dX3_tell_15 (by assumption) rfl rfl rfl (fun h1 P1 => ?_)
  have H1 := H.own P1
  have hm1 := H1.1
  have U1 := P1.upd
  refine k_aload_n C dX3_tell_18 rfl ?_
  refine k_get C fg_X3_19 dX3_tell_19 (by assumption) (by rfl) ?_
  refine k_if_le C dX3_tell_22 (tgt := 27) (by decide) (by omega) (fun g1 => ?_) (fun g2 => ?_)
  · have c0 : c = 0 := by omega
    subst c0
    have ok1 := of_decide_eq_true (hok0 rfl)
    have hok : mchOk σ i = true := decide_eq_true ok1.1
    obtain ⟨f, A, hin, hf, M⟩ := H1.at hok
    have mok := hσ.2.2.1 i.toNat (by omega)
    have hT2 := mok.1.2.1
    have hbk := hσ.2.2.2.2
    have l1 := A.1
    have M1 := M.1
    refine k_aload_n C dX3_tell_27 rfl ?_
    refine k_aload_n C dX3_tell_28 rfl ?_
    refine k_get C fg_X3_10 dX3_tell_29 (by assumption) (by rfl) ?_
    refine k_iload_n C dX3_tell_32 rfl ?_
    refine kx_V C rfl mv_X3_48 dX3_tell_33 ((c_get A hin hf)) (by assumption) rfl rfl (Nat.le_of_ble_eq_true rfl) ⟨(Nat.le_of_ble_eq_true rfl), (Nat.le_of_ble_eq_true rfl)⟩ (by omega) (fun r2 k1 hp_ => ?_) (fun _ _ hx => hx.elim)
    obtain ⟨rfl, rfl⟩ := hp_
    refine k_castO C ck_X3_35_5 dX3_tell_36 (by assumption) ?_
    refine k_iload_n C dX3_tell_39 rfl ?_
    refine k_iload_n C dX3_tell_40 rfl ?_
    refine k_iload C dX3_tell_41 rfl ?_
    refine k_iload C dX3_tell_43 rfl ?_
    refine k_iload C dX3_tell_45 rfl ?_
    refine kx_V C rfl mv_X3_74 dX3_tell_47 ((c_mPut H1 hsep (by omega) (kindN_i32 mok) (by omega) (by omega) (by omega) (by omega))) (by assumption) rfl rfl (Nat.le_of_ble_eq_true rfl) ⟨(Nat.le_of_ble_eq_true rfl), (Nat.le_of_ble_eq_true rfl)⟩ (by omega) (fun r3 h3 hp_ => ?_) (fun _ _ hx => hx.elim)
    obtain ⟨rfl, st⟩ := hp_
    have st0 := st.pre P1 (by rw [hm]; exact fun z => by cases z)
    obtain ⟨L3, H3, -⟩ := st
    have hok3 : mchOk (putG σ i.toNat (amdM (σ.ms i.toNat) (2 * t + b) (y, v, x)) σ.tk σ.rf (σ.bk + (if (σ.ms i.toNat).2.1.isSome then 1 else 0))) i = true := hok
    obtain ⟨f3, A3, hin3, hf3, M3⟩ := H3.at hok3
    rw [show (putG σ i.toNat (amdM (σ.ms i.toNat) (2 * t + b) (y, v, x)) σ.tk σ.rf (σ.bk + (if (σ.ms i.toNat).2.1.isSome then 1 else 0))).ms i.toNat = amdM (σ.ms i.toNat) (2 * t + b) (y, v, x) from upN_at] at M3
    have m3 := H3.1
    have l3 := A3.1
    have M31 := M3.1
    refine k_pop C dX3_tell_50 rfl ?_
    refine k_aload_n C dX3_tell_51 rfl ?_
    refine k_get C fg_X3_10 dX3_tell_52 (by assumption) (by rfl) ?_
    refine k_iload_n C dX3_tell_55 rfl ?_
    refine kx_V C rfl mv_X3_48 dX3_tell_56 ((c_get A3 hin3 hf3)) (by assumption) rfl rfl (Nat.le_of_ble_eq_true rfl) ⟨(Nat.le_of_ble_eq_true rfl), (Nat.le_of_ble_eq_true rfl)⟩ (by omega) (fun r2 k1 hp_ => ?_) (fun _ _ hx => hx.elim)
    obtain ⟨rfl, rfl⟩ := hp_
    refine k_castO C ck_X3_35_5 dX3_tell_59 (by assumption) ?_
    refine kx_V C rfl mv_X3_78 dX3_tell_62 ((c_mdEmpty M3 (by show (σ.ms i.toNat).1.1 ≤ 4; omega))) (by assumption) rfl rfl (Nat.le_of_ble_eq_true rfl) ⟨(Nat.le_of_ble_eq_true rfl), (Nat.le_of_ble_eq_true rfl)⟩ (by omega) (fun r4 k1 hp_ => ?_) (fun _ _ hx => hx.elim)
    obtain ⟨rfl, rfl⟩ := hp_
    exact k_iret C E dX3_tell_65 (by omega) ⟨_, rfl, fun _ => ⟨rfl, st0⟩, fun z => absurd rfl z⟩
  · refine k_iconst C dX3_tell_25 ?_
    exact k_iret C E dX3_tell_26 (by omega) ⟨_, rfl, fun z => absurd z (by omega), fun _ => q_step H1 hsep U1⟩
