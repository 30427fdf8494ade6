/-! ===== the first depth without rows ===== -/
set_option maxRecDepth 100000
def edF (T : Tb) : Nat → Nat → List Rw → Int
  | 0, _, _ => -1
  | f + 1, d, rows => if 24 < (ahR T rows []).length then -1 else if (ahR T rows []).length = 0 then d else edF T f (d + 1) (ahR T rows [])
def emptyD (T : Tb) : Int := edF T 6 1 (rowsEnds T)
theorem edF_b {T : Tb} : ∀ (f d : Nat) (rows : List Rw), edF T f d rows = -1 ∨ ((d : Int) ≤ edF T f d rows ∧ edF T f d rows < d + f)
  | 0, d, rows => Or.inl rfl
  | f + 1, d, rows => by
    unfold edF
    split
    · exact Or.inl rfl
    · split
      · right; omega
      · rcases edF_b (T := T) f (d + 1) (ahR T rows []) with h | h
        · exact Or.inl h
        · right; omega
theorem emptyD_b {T : Tb} : emptyD T = -1 ∨ (1 ≤ emptyD T ∧ emptyD T ≤ 6) := by
  have := edF_b (T := T) 6 1 (rowsEnds T)
  unfold emptyD
  omega
theorem ahC_le {m M : Nat} (h : m ≤ M) : ahC m ≤ ahC M := by
  have := payC_le h
  unfold ahC; omega
theorem ahS_le {m M : Nat} (h : m ≤ M) : ahS m ≤ ahS M := by
  have := payS_le h
  unfold ahS; omega
theorem ah_num : ahC 24 = 77 ∧ ahS 24 = 539 ∧ ahC 192 = 586 ∧ ahS 192 = 4369 := by decide +kernel
theorem rowsEnds_len {T : Tb} (hT : TbOk T) : (rowsEnds T).length ≤ 8 := by
  have := (colK_b (f := endRow T) (2 * T.1) 0 []).2
  have h2 := hT.2.1
  unfold rowsEnds
  simp only [List.length_nil] at this
  omega
theorem ahR_len {T : Tb} (hT : TbOk T) {rows : List Rw} (h : rows.length ≤ 24) : (ahR T rows []).length ≤ 192 := by
  have h1 := (ahR_b (T := T) rows []).2
  have h2 := hT.2.1
  have h3 : rows.length * (2 * T.1) ≤ 24 * 8 := Nat.mul_le_mul h (by omega)
  simp only [List.length_nil] at h1
  omega
theorem c_emptyDepth {w : Wd} {h : Hp} {t lst ar0 : Nat} {T : Tb} (G : isTb w h t lst ar0 T) (hT : TbOk T) : Ct w yX1_emptyDepth (ws_ yX1_emptyDepth cX1_emptyDepth 3 (some FieldType.int)) 9 237 989 7221 [.ref t] h (fun v h' => v = some (jI (emptyD T)) ∧ Ext h h') NoX := by
  have hT2 := hT.2.1
  have nm := ah_num
  refine Ct.of (by decide) [some (.ref t), none, none] rfl (Nat.le_of_ble_eq_true rfl) (fun K C E N0 => ?_)
  refine k_aload_n C dX1_emptyDepth_0 rfl ?_
  refine kx_S C rfl ms_X1_117 dX1_emptyDepth_1 ((c_ends G hT)) rfl rfl (Nat.le_of_ble_eq_true rfl) ⟨(Nat.le_of_ble_eq_true rfl), (Nat.le_of_ble_eq_true rfl)⟩ (by omega) (fun v h1 hp_ => ?_) (fun _ _ hx => hx.elim)
  obtain ⟨l, ar, f, rfl, A1, R1, E1⟩ := hp_
  refine k_astore_n C dX1_emptyDepth_4 (Nat.le_of_ble_eq_true rfl) rfl ?_
  refine k_iconst C dX1_emptyDepth_5 ?_
  refine k_istore_n C dX1_emptyDepth_6 (Nat.le_of_ble_eq_true rfl) rfl ?_
  have loop : ∀ (fu d l ar cap : Nat) (hh : Hp) (f : Int → Option Nat) (rows : List Rw), d + fu = 7 → 1 ≤ d → rows.length ≤ 24 → isAL w hh l ar rows.length cap f → isRws hh rows f → (∀ r ∈ rows, RwOk T (d - 1) r) → Ext h hh → edF T fu d rows = emptyD T → Wk w K hh (18 + (d - 1) * 77) (157 + (d - 1) * 539) 7 [some (.ref t), some (.ref l), some (jI (d : Nat))] [] := by
    intro fu
    induction fu with
    | zero =>
      intro d l ar cap hh f rows hd h1 h2 h3 h4 h5 h6 h7
      have e : (-1 : Int) = emptyD T := h7
      refine k_iload_n C dX1_emptyDepth_7 rfl ?_
      refine k_bipush C dX1_emptyDepth_8 (by decide) ?_
      refine k_icmp_gt C dX1_emptyDepth_10 (tgt := 49) (by decide) (by omega) (fun g1 => ?_) (fun g2 => ?_)
      · refine k_iconst C dX1_emptyDepth_49 ?_
        rw [e]
        exact k_iret C E dX1_emptyDepth_50 (by omega) ⟨rfl, h6⟩
      · omega
    | succ fu ih =>
      intro d l ar cap hh f rows hd h1 h2 h3 h4 h5 h6 h7
      have G' := G.ext h6
      have len := ahR_len hT h2
      have q1 := ahC_le len
      have q2 := ahS_le len
      refine k_iload_n C dX1_emptyDepth_7 rfl ?_
      refine k_bipush C dX1_emptyDepth_8 (by decide) ?_
      refine k_icmp_gt C dX1_emptyDepth_10 (tgt := 49) (by decide) (by omega) (fun g1 => ?_) (fun g2 => ?_)
      · omega
      · refine k_aload_n C dX1_emptyDepth_13 rfl ?_
        refine k_aload_n C dX1_emptyDepth_14 rfl ?_
        refine kx_S C rfl ms_X1_121 dX1_emptyDepth_15 ((c_ahead G' hT h3 h4 h2 (fun r hr ↦ (h5 r hr).le (by omega)))) rfl rfl (Nat.le_of_ble_eq_true rfl) ⟨(Nat.le_of_ble_eq_true rfl), (Nat.le_of_ble_eq_true rfl)⟩ (by omega) (fun v h8 hp_ => ?_) (fun _ _ hx => hx.elim)
        obtain ⟨l2, ar2, f2, rfl, A2, R2, E2⟩ := hp_
        have l2c := A2.1
        have ok2 := ahR_ok hT rows [] h5 (fun r hr => by cases hr)
        unfold edF at h7
        generalize hres : ahR T rows [] = res at *
        refine k_astore_n C dX1_emptyDepth_18 (Nat.le_of_ble_eq_true rfl) rfl ?_
        refine k_aload_n C dX1_emptyDepth_19 rfl ?_
        refine kx_F C rfl mf_X1_56 dX1_emptyDepth_20 ((c_size l2c)) (by assumption) rfl rfl (Nat.le_of_ble_eq_true rfl) ⟨(Nat.le_of_ble_eq_true rfl), (Nat.le_of_ble_eq_true rfl)⟩ (by omega) (fun v k2 hp_ => ?_) (fun _ _ hx => hx.elim)
        obtain ⟨rfl, rfl⟩ := hp_
        refine k_bipush C dX1_emptyDepth_25 (by decide) ?_
        refine k_icmp_le C dX1_emptyDepth_27 (tgt := 32) (by decide) (by omega) (fun g3 => ?_) (fun g4 => ?_)
        · have q3 := ahC_le (show res.length ≤ 24 by omega)
          have q4 := ahS_le (show res.length ≤ 24 by omega)
          rw [if_neg (by omega)] at h7
          refine k_aload_n C dX1_emptyDepth_32 rfl ?_
          refine kx_F C rfl mf_X1_124 dX1_emptyDepth_33 ((c_isEmpty (by omega) l2c)) (by assumption) rfl rfl (Nat.le_of_ble_eq_true rfl) ⟨(Nat.le_of_ble_eq_true rfl), (Nat.le_of_ble_eq_true rfl)⟩ (by omega) (fun v k2 hp_ => ?_) (fun _ _ hx => hx.elim)
          obtain ⟨rfl, rfl⟩ := hp_
          refine k_ifeq_b C dX1_emptyDepth_38 (tgt := 43) (by decide) (fun g5 => ?_) (fun g6 => ?_)
          · have g5' : ¬ ((res.length : Int) = 0) := of_decide_eq_false g5
            rw [if_neg (by omega)] at h7
            refine k_iinc C dX1_emptyDepth_43 rfl rfl ?_
            refine k_goto C dX1_emptyDepth_46 (tgt := 7) (by decide) ?_
            refine Wk.widen (n' := 18 + (d + 1 - 1) * 77) (k' := 157 + (d + 1 - 1) * 539) (by omega) (by omega) ?_
            exact ih (d + 1) l2 ar2 _ k2 f2 res (by omega) (by omega) (by omega) A2 R2 (fun r hr => (ok2 r hr).le (by omega)) (h6.trans E2) h7
          · have g6' : (res.length : Int) = 0 := of_decide_eq_true g6
            rw [if_pos (by omega)] at h7
            refine k_iload_n C dX1_emptyDepth_41 rfl ?_
            rw [h7]
            exact k_iret C E dX1_emptyDepth_42 (by omega) ⟨rfl, h6.trans E2⟩
        · rw [if_pos (by omega)] at h7
          refine k_iconst C dX1_emptyDepth_30 ?_
          rw [h7]
          exact k_iret C E dX1_emptyDepth_31 (by omega) ⟨rfl, h6.trans E2⟩
  have ln := rowsEnds_len hT
  exact loop 6 1 l ar _ h1 f (rowsEnds T) (by omega) (by omega) (by omega) A1 R1 (fun r hr => rowsEnds_ok r hr) E1 rfl
theorem wk_made {w : Wd} {h h1 h2 h3 : Hp} {q tp : Nat} {c : Cel} (N1 : New w h h1 q c) (t2 : h1.2 tp = none) (U2 : Upd h1 h2 [q]) (U3 : Upd h2 h3 [q, tp]) : Ext h h2 ∧ Ext h h3 ∧ h.2 q = none ∧ h.2 tp = none := by
  have E2 := U2.ext0 N1.2.2.1 (by simpa using N1.1)
  have t0 := N1.2.2.1.old t2
  exact ⟨E2, U3.ext0 E2 (by simp [N1.1, t0]), N1.1, t0⟩
theorem c_walkNeg {w : Wd} {h : Hp} {a : Nat} {m : Int} (hm : -1000 ≤ m ∧ m < 0) : Ct w yX8_walk (ws_ yX8_walk cX8_walk 3 (some (FieldType.object "Haltingale$Walker"))) 6 126 0 0 [.ref a, jI m] h (fun v h' => v = some (.ref a) ∧ h' = h) NoX := by
  refine Ct.of (by decide) [some (.ref a), some (jI m), none] rfl (Nat.le_of_ble_eq_true rfl) (fun K C E N0 => ?_)
  refine k_iconst C dX8_walk_0 ?_
  refine k_istore_n C dX8_walk_1 (Nat.le_of_ble_eq_true rfl) rfl ?_
  refine k_iload_n C dX8_walk_2 rfl ?_
  refine k_iload_n C dX8_walk_3 rfl ?_
  refine k_icmp_ge C dX8_walk_4 (tgt := 24) (by decide) (by omega) (fun g1 => ?_) (fun g2 => ?_)
  · refine k_aload_n C dX8_walk_24 rfl ?_
    exact k_aret C (Or.inl ⟨_, rfl⟩) E dX8_walk_25 (by omega) ⟨rfl, rfl⟩
  · omega
def stopB (T : Tb) (c : Cf) : Bool := decide (c.st = T.1)
def backNow (T : Tb) : Int := if emptyD T ≠ -1 ∧ ((runN T (emptyD T).toNat c0).n : Int) = emptyD T ∧ stopB T (runN T (emptyD T).toNat c0) = false then emptyD T else -1
theorem c_backNow {w : Wd} {h : Hp} {t lst ar0 : Nat} {T : Tb} (G : isTb w h t lst ar0 T) (hT : TbOk T) : Ct w yX1_backNow (ws_ yX1_backNow cX1_backNow 3 (some FieldType.int)) 10 259 991 7242 [.ref t] h (fun v h' => v = some (jI (backNow T)) ∧ Ext h h') NoX := by
  have eb := emptyD_b (T := T)
  refine Ct.of (by decide) [some (.ref t), none, none] rfl (Nat.le_of_ble_eq_true rfl) (fun K C E N0 => ?_)
  refine k_aload_n C dX1_backNow_0 rfl ?_
  refine kx_S C rfl ms_X1_407 dX1_backNow_1 ((c_emptyDepth G hT)) rfl rfl (Nat.le_of_ble_eq_true rfl) ⟨(Nat.le_of_ble_eq_true rfl), (Nat.le_of_ble_eq_true rfl)⟩ (by omega) (fun v h1 hp_ => ?_) (fun _ _ hx => hx.elim)
  obtain ⟨rfl, E1⟩ := hp_
  refine k_istore_n C dX1_backNow_4 (Nat.le_of_ble_eq_true rfl) rfl ?_
  refine k_new C nw_X1_3 dX1_backNow_5 (by omega) (fun q h2 N2 => ?_)
  have q2 := N2.2.1
  refine k_dup C dX1_backNow_8 rfl ?_
  refine k_aload_n C dX1_backNow_9 rfl ?_
  refine k_iconst C dX1_backNow_10 ?_
  refine k_iload_n C dX1_backNow_11 rfl ?_
  refine k_max C rfl q439 dX1_backNow_12 (by omega) ⟨(Nat.le_of_ble_eq_true rfl), (Nat.le_of_ble_eq_true rfl)⟩ (by omega) ?_
  generalize hbn : backNow T = bn at *
  unfold backNow at hbn
  generalize hd : emptyD T = d at *
  rw [show max 0 d = ((max 0 d).toNat : Int) by omega]
  refine kx_I C rfl mi_X1_5 dX1_backNow_15 ((c_wkInit (R := (max 0 d).toNat) (by omega) q2)) rfl rfl (Nat.le_of_ble_eq_true rfl) ⟨(Nat.le_of_ble_eq_true rfl), (Nat.le_of_ble_eq_true rfl)⟩ (by omega) (fun v h3 hp_ => ?_) (fun _ _ hx => hx.elim)
  obtain ⟨rfl, tp, t3, W3, U3⟩ := hp_
  have W31 := W3.1
  have M := wk_made N2 t3 U3 ((Ext.refl h3).upd [q, tp])
  refine k_iload_n C dX1_backNow_18 rfl ?_
  rcases eb with e | e
  · rw [if_neg (by simp [e])] at hbn
    refine kx_V C rfl mv_X1_9 dX1_backNow_19 ((c_walkNeg (by omega))) (by assumption) rfl rfl (Nat.le_of_ble_eq_true rfl) ⟨(Nat.le_of_ble_eq_true rfl), (Nat.le_of_ble_eq_true rfl)⟩ (by omega) (fun v h4 hp_ => ?_) (fun _ _ hx => hx.elim)
    obtain ⟨rfl, rfl⟩ := hp_
    refine k_astore_n C dX1_backNow_22 (Nat.le_of_ble_eq_true rfl) rfl ?_
    refine k_iload_n C dX1_backNow_23 rfl ?_
    refine k_iconst C dX1_backNow_24 ?_
    refine k_icmp_eq C dX1_backNow_25 (tgt := 47) (by decide) (by omega) (fun g1 => ?_) (fun g2 => ?_)
    · refine k_iconst C dX1_backNow_47 ?_
      rw [hbn]
      exact k_iret C E dX1_backNow_48 (by omega) ⟨rfl, E1.trans M.1⟩
    · exact absurd e g2
  · have hm : max 0 d = d := by omega
    rw [hm] at W3
    have W32 := W3.1
    rw [show d = ((d.toNat : Nat) : Int) by omega]
    refine kx_V C rfl mv_X1_9 dX1_backNow_19 ((c_walk (m := d.toNat) (by omega) W3 ((G.ext E1).ext M.1) hT c0_ok (by show 0 + d.toNat ≤ d.toNat; omega))) (by assumption) rfl rfl (Nat.le_of_ble_eq_true rfl) ⟨(Nat.le_of_ble_eq_true rfl), (Nat.le_of_ble_eq_true rfl)⟩ (by omega) (fun v h4 hp_ => ?_) (fun _ _ hx => hx.elim)
    obtain ⟨rfl, U4, W4⟩ := hp_
    have W41 := W4.1
    have M2 := wk_made N2 t3 U3 U4
    rw [show ((d.toNat : Nat) : Int) = d by omega] at *
    have r1 := runN_c0 hT d.toNat
    refine k_astore_n C dX1_backNow_22 (Nat.le_of_ble_eq_true rfl) rfl ?_
    refine k_iload_n C dX1_backNow_23 rfl ?_
    refine k_iconst C dX1_backNow_24 ?_
    refine k_icmp_eq C dX1_backNow_25 (tgt := 47) (by decide) (by omega) (fun g1 => ?_) (fun g2 => ?_)
    · omega
    · refine k_aload_n C dX1_backNow_28 rfl ?_
      refine k_getN C fn_X1_39 dX1_backNow_29 (by assumption) (by rfl) ?_
      refine k_iload_n C dX1_backNow_32 rfl ?_
      refine k_icmp_ne C dX1_backNow_33 (tgt := 47) (by decide) (by omega) (fun g3 => ?_) (fun g4 => ?_)
      · refine k_iconst C dX1_backNow_47 ?_
        rw [if_neg (fun z => g3 z.2.1)] at hbn
        rw [hbn]
        exact k_iret C E dX1_backNow_48 (by omega) ⟨rfl, E1.trans M2.2.1⟩
      · refine k_aload_n C dX1_backNow_36 rfl ?_
        refine kx_V C rfl mv_X1_305 dX1_backNow_37 ((c_hasStopped W4 ((G.ext E1).ext M2.2.1) hT r1.1)) (by assumption) rfl rfl (Nat.le_of_ble_eq_true rfl) ⟨(Nat.le_of_ble_eq_true rfl), (Nat.le_of_ble_eq_true rfl)⟩ (by omega) (fun v h5 hp_ => ?_) (fun _ _ hx => hx.elim)
        obtain ⟨rfl, rfl⟩ := hp_
        refine k_ifne_b C dX1_backNow_40 (tgt := 47) (by decide) (fun g5 => ?_) (fun g6 => ?_)
        · refine k_iconst C dX1_backNow_47 ?_
          rw [if_neg (fun z => by have z1 := z.2.2; unfold stopB at z1; rw [g5] at z1; cases z1)] at hbn
          rw [hbn]
          exact k_iret C E dX1_backNow_48 (by omega) ⟨rfl, E1.trans M2.2.1⟩
        · refine k_iload_n C dX1_backNow_43 rfl ?_
          refine k_goto C dX1_backNow_44 (tgt := 48) (by decide) ?_
          rw [if_pos ⟨g2, g4, g6⟩] at hbn
          rw [hbn]
          exact k_iret C E dX1_backNow_48 (by omega) ⟨rfl, E1.trans M2.2.1⟩
def backTakes (T : Tb) (a : Nat) : Bool := decide (emptyD T ≠ -1) && (decide (emptyD T ≤ a) && (decide ((runN T a c0).n = a) && !stopB T (runN T a c0)))
theorem c_backTakes {w : Wd} {h : Hp} {x t lst ar0 a : Nat} {T : Tb} {b : Int} (ha : a ≤ 6) (G : isTb w h t lst ar0 T) (hT : TbOk T) : CtC w yX17_takes (ws_ yX17_takes cX17_takes 6 (some FieldType.boolean)) 10 259 991 7242 [.ref x, .ref t, jI (a : Nat), jI b] h (fun v h' => v = some (jI (b2i (backTakes T a))) ∧ Ext h h') NoX := by
  have eb := emptyD_b (T := T)
  have r1 := runN_c0 hT a
  refine CtC.of (by decide) [some (.ref x), some (.ref t), some (jI (a : Nat)), some (jI b), none, none] rfl (Nat.le_of_ble_eq_true rfl) (fun K C E N0 => ?_)
  refine k_aload_n C dX17_takes_0 rfl ?_
  refine kx_SN C rfl msn_X17_9 dX17_takes_1 ((c_emptyDepth G hT)) rfl rfl (Nat.le_of_ble_eq_true rfl) ⟨(Nat.le_of_ble_eq_true rfl), (Nat.le_of_ble_eq_true rfl)⟩ (by omega) (fun v h1 hp_ => ?_) (fun _ _ hx => hx.elim)
  obtain ⟨rfl, E1⟩ := hp_
  refine k_istore C dX17_takes_4 (Nat.le_of_ble_eq_true rfl) rfl ?_
  refine k_new C nw_X17_13 dX17_takes_6 (by omega) (fun q h2 N2 => ?_)
  have q2 := N2.2.1
  refine k_dup C dX17_takes_9 rfl ?_
  refine k_aload_n C dX17_takes_10 rfl ?_
  refine k_iload_n C dX17_takes_11 rfl ?_
  refine kx_I C rfl mi_X17_15 dX17_takes_12 ((c_wkInit (R := a) (by omega) q2)) rfl rfl (Nat.le_of_ble_eq_true rfl) ⟨(Nat.le_of_ble_eq_true rfl), (Nat.le_of_ble_eq_true rfl)⟩ (by omega) (fun v h3 hp_ => ?_) (fun _ _ hx => hx.elim)
  obtain ⟨rfl, tp, t3, W3, U3⟩ := hp_
  have W31 := W3.1
  have M := wk_made N2 t3 U3 ((Ext.refl h3).upd [q, tp])
  refine k_iload_n C dX17_takes_15 rfl ?_
  refine kx_V C rfl mv_X17_18 dX17_takes_16 ((c_walk (m := a) (by omega) W3 ((G.ext E1).ext M.1) hT c0_ok (by show 0 + a ≤ a; omega))) (by assumption) rfl rfl (Nat.le_of_ble_eq_true rfl) ⟨(Nat.le_of_ble_eq_true rfl), (Nat.le_of_ble_eq_true rfl)⟩ (by omega) (fun v h4 hp_ => ?_) (fun _ _ hx => hx.elim)
  obtain ⟨rfl, U4, W4⟩ := hp_
  have W41 := W4.1
  have M2 := wk_made N2 t3 U3 U4
  have EE := E1.trans M2.2.1
  generalize hbn : backTakes T a = bn at *
  unfold backTakes at hbn
  refine k_astore C dX17_takes_19 (Nat.le_of_ble_eq_true rfl) rfl ?_
  refine k_iload C dX17_takes_21 rfl ?_
  refine k_iconst C dX17_takes_23 ?_
  refine k_icmp_eq C dX17_takes_24 (tgt := 54) (by decide) (by omega) (fun g1 => ?_) (fun g2 => ?_)
  · refine k_iconst C dX17_takes_54 ?_
    rw [g1] at hbn
    exact k_zret (b := false) C E dX17_takes_55 (by omega) ⟨by rw [← hbn]; rfl, EE⟩
  · rw [decide_eq_true g2] at hbn
    refine k_iload C dX17_takes_27 rfl ?_
    refine k_iload_n C dX17_takes_29 rfl ?_
    refine k_icmp_gt C dX17_takes_30 (tgt := 54) (by decide) (by omega) (fun g3 => ?_) (fun g4 => ?_)
    · refine k_iconst C dX17_takes_54 ?_
      rw [decide_eq_false (by omega)] at hbn
      exact k_zret (b := false) C E dX17_takes_55 (by omega) ⟨by rw [← hbn]; rfl, EE⟩
    · rw [decide_eq_true (by omega)] at hbn
      refine k_aload C dX17_takes_33 rfl ?_
      refine k_getN C fn_X17_22 dX17_takes_35 (by assumption) (by rfl) ?_
      refine k_iload_n C dX17_takes_38 rfl ?_
      refine k_icmp_ne C dX17_takes_39 (tgt := 54) (by decide) (by omega) (fun g5 => ?_) (fun g6 => ?_)
      · refine k_iconst C dX17_takes_54 ?_
        rw [decide_eq_false (by omega)] at hbn
        exact k_zret (b := false) C E dX17_takes_55 (by omega) ⟨by rw [← hbn]; rfl, EE⟩
      · rw [decide_eq_true (by omega)] at hbn
        refine k_aload C dX17_takes_42 rfl ?_
        refine kx_V C rfl mv_X17_26 dX17_takes_44 ((c_hasStopped W4 ((G.ext E1).ext M2.2.1) hT r1.1)) (by assumption) rfl rfl (Nat.le_of_ble_eq_true rfl) ⟨(Nat.le_of_ble_eq_true rfl), (Nat.le_of_ble_eq_true rfl)⟩ (by omega) (fun v h5 hp_ => ?_) (fun _ _ hx => hx.elim)
        obtain ⟨rfl, rfl⟩ := hp_
        unfold stopB at hbn
        refine k_ifne_b C dX17_takes_47 (tgt := 54) (by decide) (fun g7 => ?_) (fun g8 => ?_)
        · refine k_iconst C dX17_takes_54 ?_
          rw [g7] at hbn
          exact k_zret (b := false) C E dX17_takes_55 (by omega) ⟨by rw [← hbn]; rfl, EE⟩
        · refine k_iconst C dX17_takes_50 ?_
          refine k_goto C dX17_takes_51 (tgt := 55) (by decide) ?_
          rw [g8] at hbn
          exact k_zret (b := true) C E dX17_takes_55 (by omega) ⟨by rw [← hbn]; rfl, EE⟩
def stopTakes (T : Tb) (a : Nat) : Bool := stopB T (runN T a c0) && decide ((runN T a c0).n = a)
theorem c_stopTakes {w : Wd} {h : Hp} {x t lst ar0 a : Nat} {T : Tb} {b : Int} (ha : a ≤ 500) (G : isTb w h t lst ar0 T) (hT : TbOk T) : CtC w yX16_takes (ws_ yX16_takes cX16_takes 5 (some FieldType.boolean)) 7 148 2 (9 + 2 * a) [.ref x, .ref t, jI (a : Nat), jI b] h (fun v h' => v = some (jI (b2i (stopTakes T a))) ∧ Ext h h') NoX := by
  have r1 := runN_c0 hT a
  refine CtC.of (by decide) [some (.ref x), some (.ref t), some (jI (a : Nat)), some (jI b), none] rfl (Nat.le_of_ble_eq_true rfl) (fun K C E N0 => ?_)
  refine k_new C nw_X16_9 dX16_takes_0 (by omega) (fun q h2 N2 => ?_)
  have q2 := N2.2.1
  refine k_dup C dX16_takes_3 rfl ?_
  refine k_aload_n C dX16_takes_4 rfl ?_
  refine k_iload_n C dX16_takes_5 rfl ?_
  refine kx_I C rfl mi_X16_11 dX16_takes_6 ((c_wkInit (R := a) (by omega) q2)) rfl rfl (Nat.le_of_ble_eq_true rfl) ⟨(Nat.le_of_ble_eq_true rfl), (Nat.le_of_ble_eq_true rfl)⟩ (by omega) (fun v h3 hp_ => ?_) (fun _ _ hx => hx.elim)
  obtain ⟨rfl, tp, t3, W3, U3⟩ := hp_
  have W31 := W3.1
  have M := wk_made N2 t3 U3 ((Ext.refl h3).upd [q, tp])
  refine k_iload_n C dX16_takes_9 rfl ?_
  refine kx_V C rfl mv_X16_14 dX16_takes_10 ((c_walk (m := a) (by omega) W3 (G.ext M.1) hT c0_ok (by show 0 + a ≤ a; omega))) (by assumption) rfl rfl (Nat.le_of_ble_eq_true rfl) ⟨(Nat.le_of_ble_eq_true rfl), (Nat.le_of_ble_eq_true rfl)⟩ (by omega) (fun v h4 hp_ => ?_) (fun _ _ hx => hx.elim)
  obtain ⟨rfl, U4, W4⟩ := hp_
  have W41 := W4.1
  have M2 := wk_made N2 t3 U3 U4
  have EE := M2.2.1
  generalize hbn : stopTakes T a = bn at *
  unfold stopTakes stopB at hbn
  refine k_astore C dX16_takes_13 (Nat.le_of_ble_eq_true rfl) rfl ?_
  refine k_aload C dX16_takes_15 rfl ?_
  refine kx_V C rfl mv_X16_18 dX16_takes_17 ((c_hasStopped W4 (G.ext EE) hT r1.1)) (by assumption) rfl rfl (Nat.le_of_ble_eq_true rfl) ⟨(Nat.le_of_ble_eq_true rfl), (Nat.le_of_ble_eq_true rfl)⟩ (by omega) (fun v h5 hp_ => ?_) (fun _ _ hx => hx.elim)
  obtain ⟨rfl, rfl⟩ := hp_
  refine k_ifeq_b C dX16_takes_20 (tgt := 36) (by decide) (fun g1 => ?_) (fun g2 => ?_)
  · refine k_iconst C dX16_takes_36 ?_
    rw [g1] at hbn
    exact k_zret (b := false) C E dX16_takes_37 (by omega) ⟨by rw [← hbn]; rfl, EE⟩
  · rw [g2] at hbn
    refine k_aload C dX16_takes_23 rfl ?_
    refine k_getN C fn_X16_22 dX16_takes_25 (by assumption) (by rfl) ?_
    refine k_iload_n C dX16_takes_28 rfl ?_
    refine k_icmp_ne C dX16_takes_29 (tgt := 36) (by decide) (by omega) (fun g3 => ?_) (fun g4 => ?_)
    · refine k_iconst C dX16_takes_36 ?_
      rw [decide_eq_false (by omega)] at hbn
      exact k_zret (b := false) C E dX16_takes_37 (by omega) ⟨by rw [← hbn]; rfl, EE⟩
    · refine k_iconst C dX16_takes_32 ?_
      refine k_goto C dX16_takes_33 (tgt := 37) (by decide) ?_
      rw [decide_eq_true (by omega)] at hbn
      exact k_zret (b := true) C E dX16_takes_37 (by omega) ⟨by rw [← hbn]; rfl, EE⟩
theorem c_cycTakes {w : Wd} {h : Hp} {x t lst ar0 a b : Nat} {T : Tb} (hab : a + b < 1000) (G : isTb w h t lst ar0 T) (hT : TbOk T) : CtC w yX18_takes (ws_ yX18_takes cX18_takes 4 (some FieldType.boolean)) 8 175 6 (16 + 3 * (2 * (a + b) + 1)) [.ref x, .ref t, jI (a : Nat), jI (b : Nat)] h (fun v h' => v = some (jI (b2i (cycB T a b))) ∧ Ext h h') NoX := by
  refine CtC.of (by decide) [some (.ref x), some (.ref t), some (jI (a : Nat)), some (jI (b : Nat))] rfl (Nat.le_of_ble_eq_true rfl) (fun K C E N0 => ?_)
  refine k_aload_n C dX18_takes_0 rfl ?_
  refine k_iload_n C dX18_takes_1 rfl ?_
  refine k_iload_n C dX18_takes_2 rfl ?_
  refine kx_SN C rfl msn_X18_9 dX18_takes_3 ((c_isCycle2 G hT hab)) rfl rfl (Nat.le_of_ble_eq_true rfl) ⟨(Nat.le_of_ble_eq_true rfl), (Nat.le_of_ble_eq_true rfl)⟩ (by omega) (fun v h1 hp_ => ?_) (fun _ _ hx => hx.elim)
  obtain ⟨y, rfl, hy, E1⟩ := hp_
  have ey : cycB T a b = y := by
    have h2 := cycB_iff hT (a := a) (b := b)
    cases y with
    | true => exact h2.mpr (hy.mp rfl)
    | false =>
      cases hc : cycB T a b with
      | false => rfl
      | true => exact absurd (hy.mpr (h2.mp hc)) (by decide)
  exact k_zret (b := y) C E dX18_takes_6 (by omega) ⟨by rw [ey], E1⟩
