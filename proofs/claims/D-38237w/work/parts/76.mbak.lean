/-! ===== the model: proofs by backward rows ===== -/
set_option maxRecDepth 100000
theorem mh_le {m M : Nat} (h : m ≤ M) : mhC m ≤ mhC M ∧ mhS m ≤ mhS M := by
  have h1 := payC_le h
  have h2 := payS_le h
  unfold mhC mhS
  omega
theorem mh_num : mhC 24 ≤ 30 ∧ mhS 24 ≤ 200 ∧ mhC 192 ≤ 204 ∧ mhS 192 ≤ 1800 := by decide +kernel
theorem edF_step {T : Tb} {fu d : Nat} {rows : List Rw} (h : ¬ 24 < rows.length) : (if 24 < rows.length then -1 else edF T (fu + 1) d rows) = if 24 < (ahR T rows []).length then -1 else if (ahR T rows []).length = 0 then (d : Int) else edF T fu (d + 1) (ahR T rows []) := by
  rw [if_neg h, edF]
theorem c_mBackNow {w : Wd} {h : Hp} {md cs : Nat} {T : Tb} {kv av bv : Int} (G : isMd h md cs T kv av bv) (hT : TbOk T) : Ct w yX3_backNow (ws_ yX3_backNow cX3_backNow 4 (some FieldType.int)) 10 261 400 3100 [.ref md] h (fun v h' => v = some (jI (backNow T)) ∧ Ext h h') NoX := by
  have nm := mh_num
  generalize hbn : backNow T = bn at *
  unfold backNow at hbn
  refine Ct.of (by decide) [some (.ref md), none, none, none] rfl (Nat.le_of_ble_eq_true rfl) (fun K C E N0 => ?_)
  refine k_aload_n C dX3_backNow_0 rfl ?_
  refine kx_S C rfl ms_X3_147 dX3_backNow_1 ((c_mLastRows G hT)) rfl rfl (Nat.le_of_ble_eq_true rfl) ⟨(Nat.le_of_ble_eq_true rfl), (Nat.le_of_ble_eq_true rfl)⟩ (by omega) (fun v h1 hp_ => ?_) (fun _ _ hx => hx.elim)
  obtain ⟨l, ar, f, rfl, A1, R1, E1⟩ := hp_
  refine k_astore_n C dX3_backNow_4 (Nat.le_of_ble_eq_true rfl) rfl ?_
  refine k_iconst C dX3_backNow_5 ?_
  refine k_istore_n C dX3_backNow_6 (Nat.le_of_ble_eq_true rfl) rfl ?_
  have loop : ∀ (fu d l ar cap n k : Nat) (hh : Hp) (f : Int → Option Nat) (rows : List Rw), d + fu = 7 → 1 ≤ d → n ≤ 10 + (d - 1) * 30 + (if 24 < rows.length then 204 else 0) → k ≤ 45 + (d - 1) * 200 + (if 24 < rows.length then 1800 else 0) → rows.length ≤ 192 → isAL w hh l ar rows.length cap f → isRms hh rows f → (∀ r ∈ rows, RwOk T (d - 1) r) → Ext h hh → (if 24 < rows.length then -1 else edF T fu d rows) = emptyD T → Wk w K hh n k 7 [some (.ref md), some (.ref l), some (jI (d : Nat)), none] [] := by
    intro fu
    induction fu with
    | zero =>
      intro d l ar cap n k hh f rows hd h1 hn hk h2 h3 h4 h5 h6 h7
      have i1 : (if 24 < rows.length then 204 else 0) ≤ 204 := by split <;> omega
      have i2 : (if 24 < rows.length then 1800 else 0) ≤ 1800 := by split <;> omega
      have e : (-1 : Int) = emptyD T := by rw [← h7]; split <;> rfl
      rw [← e, if_neg (fun z => z.1 rfl)] at hbn
      refine k_iload_n C dX3_backNow_7 rfl ?_
      refine k_bipush C dX3_backNow_8 (by decide) ?_
      refine k_icmp_ge C dX3_backNow_10 (tgt := 73) (by decide) (by omega) (fun g1 => ?_) (fun g2 => ?_)
      · refine k_iconst C dX3_backNow_73 ?_
        rw [hbn]
        exact k_iret C E dX3_backNow_74 (by omega) ⟨rfl, h6⟩
      · omega
    | succ fu ih =>
      intro d l ar cap n k hh f rows hd h1 hn hk h2 h3 h4 h5 h6 h7
      have i1 : (if 24 < rows.length then 204 else 0) ≤ 204 := by split <;> omega
      have i2 : (if 24 < rows.length then 1800 else 0) ≤ 1800 := by split <;> omega
      have G' := G.ext h6
      have l3 := h3.1
      refine k_iload_n C dX3_backNow_7 rfl ?_
      refine k_bipush C dX3_backNow_8 (by decide) ?_
      refine k_icmp_ge C dX3_backNow_10 (tgt := 73) (by decide) (by omega) (fun g1 => ?_) (fun g2 => ?_)
      · omega
      · refine k_aload_n C dX3_backNow_13 rfl ?_
        refine kx_V C rfl mv_X3_23 dX3_backNow_14 ((c_size l3)) (by assumption) rfl rfl (Nat.le_of_ble_eq_true rfl) ⟨(Nat.le_of_ble_eq_true rfl), (Nat.le_of_ble_eq_true rfl)⟩ (by omega) (fun v k2 hp_ => ?_) (fun _ _ hx => hx.elim)
        obtain ⟨rfl, rfl⟩ := hp_
        refine k_bipush C dX3_backNow_17 (by decide) ?_
        refine k_icmp_le C dX3_backNow_19 (tgt := 24) (by decide) (by omega) (fun g3 => ?_) (fun g4 => ?_)
        · have hle : ¬ 24 < rows.length := by omega
          rw [edF_step hle] at h7
          rw [if_neg hle] at hn hk
          have len := ahR_len hT (show rows.length ≤ 24 by omega)
          have q1 := mh_le len
          refine k_aload_n C dX3_backNow_24 rfl ?_
          refine k_aload_n C dX3_backNow_25 rfl ?_
          refine kx_S C rfl ms_X3_151 dX3_backNow_26 ((c_mAhead G' hT h3 h4 (by omega) (fun r hr ↦ (h5 r hr).le (by omega)))) rfl rfl (Nat.le_of_ble_eq_true rfl) ⟨(Nat.le_of_ble_eq_true rfl), (Nat.le_of_ble_eq_true rfl)⟩ (by omega) (fun v h8 hp_ => ?_) (fun _ _ hx => hx.elim)
          obtain ⟨l2, ar2, f2, rfl, A2, R2, E2⟩ := hp_
          have l2c := A2.1
          have ok2 := ahR_ok hT rows [] h5 (fun r hr => by cases hr)
          have E02 := h6.trans E2
          generalize hres : ahR T rows [] = res at *
          refine k_astore_n C dX3_backNow_29 (Nat.le_of_ble_eq_true rfl) rfl ?_
          refine k_aload_n C dX3_backNow_30 rfl ?_
          refine kx_V C rfl mv_X3_155 dX3_backNow_31 ((c_isEmpty (by omega) l2c)) (by assumption) rfl rfl (Nat.le_of_ble_eq_true rfl) ⟨(Nat.le_of_ble_eq_true rfl), (Nat.le_of_ble_eq_true rfl)⟩ (by omega) (fun v k2 hp_ => ?_) (fun _ _ hx => hx.elim)
          obtain ⟨rfl, rfl⟩ := hp_
          refine k_ifne_b C dX3_backNow_34 (tgt := 40) (by decide) (fun g5 => ?_) (fun g6 => ?_)
          · have g5' : (res.length : Int) = 0 := of_decide_eq_true g5
            rw [if_neg (by omega), if_pos (by omega)] at h7
            rw [← h7, show ((d : Nat) : Int).toNat = d from rfl] at hbn
            have r1 := runN_c0 hT d
            have := mh_le (show res.length ≤ 24 by omega)
            have mdE := (G.ext E02).1
            refine k_aload_n C dX3_backNow_40 rfl ?_
            refine k_iload_n C dX3_backNow_41 rfl ?_
            refine kx_V C rfl mv_X3_81 dX3_backNow_42 ((c_run (R := d) (by omega) (G.ext E02) hT)) (by assumption) rfl rfl (Nat.le_of_ble_eq_true rfl) ⟨(Nat.le_of_ble_eq_true rfl), (Nat.le_of_ble_eq_true rfl)⟩ (by omega) (fun v h9 hp_ => ?_) (fun _ _ hx => hx.elim)
            obtain ⟨q, tp, rfl, q0, tp0, W9, E9⟩ := hp_
            have W91 := W9.1
            refine k_astore_n C dX3_backNow_45 (Nat.le_of_ble_eq_true rfl) rfl ?_
            refine k_aload_n C dX3_backNow_46 rfl ?_
            refine k_getN C fn_X3_112 dX3_backNow_47 (by assumption) (by rfl) ?_
            refine k_iload_n C dX3_backNow_50 rfl ?_
            refine k_icmp_ne C dX3_backNow_51 (tgt := 65) (by decide) (by omega) (fun g7 => ?_) (fun g8 => ?_)
            · rw [if_neg (fun z => g7 z.2.1)] at hbn
              refine k_iconst C dX3_backNow_65 ?_
              rw [hbn]
              exact k_iret C E dX3_backNow_66 (by omega) ⟨rfl, E02.trans E9⟩
            · refine k_aload_n C dX3_backNow_54 rfl ?_
              refine kx_V C rfl mv_X3_109 dX3_backNow_55 ((c_rnStopped W9 ((G.ext E02).ext E9) hT r1.1)) (by assumption) rfl rfl (Nat.le_of_ble_eq_true rfl) ⟨(Nat.le_of_ble_eq_true rfl), (Nat.le_of_ble_eq_true rfl)⟩ (by omega) (fun v k3 hp_ => ?_) (fun _ _ hx => hx.elim)
              obtain ⟨rfl, rfl⟩ := hp_
              refine k_ifne_b C dX3_backNow_58 (tgt := 65) (by decide) (fun g9 => ?_) (fun g10 => ?_)
              · rw [if_neg (fun z => by rw [z.2.2] at g9; cases g9)] at hbn
                refine k_iconst C dX3_backNow_65 ?_
                rw [hbn]
                exact k_iret C E dX3_backNow_66 (by omega) ⟨rfl, E02.trans E9⟩
              · rw [if_pos ⟨by omega, g8, g10⟩] at hbn
                refine k_iload_n C dX3_backNow_61 rfl ?_
                refine k_goto C dX3_backNow_62 (tgt := 66) (by decide) ?_
                rw [hbn]
                exact k_iret C E dX3_backNow_66 (by omega) ⟨rfl, E02.trans E9⟩
          · have g6' : ¬ ((res.length : Int) = 0) := of_decide_eq_false g6
            rw [show (if 24 < res.length then (-1 : Int) else if res.length = 0 then (d : Int) else edF T fu (d + 1) res) = if 24 < res.length then -1 else edF T fu (d + 1) res by rw [if_neg (show ¬ res.length = 0 by omega)]] at h7
            refine k_goto C dX3_backNow_37 (tgt := 67) (by decide) ?_
            refine k_iinc C dX3_backNow_67 rfl rfl ?_
            refine k_goto C dX3_backNow_70 (tgt := 7) (by decide) ?_
            refine ih (d + 1) l2 ar2 _ _ _ k2 f2 res (by omega) (by omega) ?_ ?_ len A2 R2 (fun r hr => (ok2 r hr).le (by omega)) E02 h7
            · by_cases hg : 24 < res.length
              · rw [if_pos hg]; omega
              · have := mh_le (show res.length ≤ 24 by omega)
                rw [if_neg hg]; omega
            · by_cases hg : 24 < res.length
              · rw [if_pos hg]; omega
              · have := mh_le (show res.length ≤ 24 by omega)
                rw [if_neg hg]; omega
        · rw [if_pos (by omega)] at h7
          rw [← h7, if_neg (fun z => z.1 rfl)] at hbn
          refine k_iconst C dX3_backNow_22 ?_
          rw [hbn]
          exact k_iret C E dX3_backNow_23 (by omega) ⟨rfl, h6⟩
  have ln := rowsEnds_len hT
  exact loop 6 1 l ar _ _ _ h1 f (rowsEnds T) (by omega) (by omega) (by rw [if_neg (by omega)]; omega) (by rw [if_neg (by omega)]; omega) (by omega) A1 R1 (fun r hr => rowsEnds_ok r hr) E1 (by rw [if_neg (by omega)]; rfl)
/-- the rows a steps behind, if there were never too many: are there none -/
def noRow (T : Tb) : Nat → List Rw → Bool
  | 0, rows => decide (rows.length = 0)
  | a + 1, rows => if 24 < rows.length then false else noRow T a (ahR T rows [])
theorem noRow_nil {T : Tb} : ∀ a : Nat, noRow T a [] = true
  | 0 => rfl
  | a + 1 => by
    unfold noRow
    rw [if_neg (by decide)]
    exact noRow_nil a
theorem noRow_ed {T : Tb} : ∀ (a fu d : Nat) (rows : List Rw), 1 ≤ a → a ≤ fu → rows.length ≤ 24 → noRow T a rows = (decide (edF T fu d rows ≠ -1) && decide (edF T fu d rows ≤ (d : Int) + a - 1))
  | 0, _, _, _, h, _, _ => absurd h (by decide)
  | a + 1, 0, _, _, _, h, _ => absurd h (by omega)
  | a + 1, fu + 1, d, rows, _, h2, h3 => by
    unfold noRow edF
    rw [if_neg (show ¬ 24 < rows.length by omega)]
    by_cases h : 24 < (ahR T rows []).length
    · rw [if_pos h]
      cases a with
      | zero => exact decide_eq_false (by omega)
      | succ a => unfold noRow; rw [if_pos h]; rfl
    · rw [if_neg h]
      by_cases h0 : (ahR T rows []).length = 0
      · rw [if_pos h0, List.length_eq_zero_iff.mp h0, noRow_nil, decide_eq_true (show (d : Int) ≠ -1 by omega), decide_eq_true (show (d : Int) ≤ (d : Int) + ((a + 1 : Nat) : Int) - 1 by omega)]
        rfl
      · rw [if_neg h0]
        have eb := edF_b (T := T) fu (d + 1) (ahR T rows [])
        cases a with
        | zero =>
          unfold noRow
          rw [decide_eq_false h0]
          rcases eb with e | e
          · rw [e]; rfl
          · rw [decide_eq_false (show ¬ edF T fu (d + 1) (ahR T rows []) ≤ (d : Int) + ((0 + 1 : Nat) : Int) - 1 by omega), Bool.and_false]
        | succ a =>
          rw [noRow_ed (a + 1) fu (d + 1) (ahR T rows []) (by omega) (by omega) (by omega)]
          congr 2
          apply propext
          omega
theorem c_mIsBack {w : Wd} {h : Hp} {md cs a : Nat} {T : Tb} {kv av bv : Int} (ha : 1 ≤ a ∧ a ≤ 6) (G : isMd h md cs T kv av bv) (hT : TbOk T) : Ct w yX3_isBack (ws_ yX3_isBack cX3_isBack 4 (some FieldType.boolean)) 10 261 400 3100 [.ref md, jI (a : Nat)] h (fun v h' => v = some (jI (b2i (backTakes T a))) ∧ Ext h h') NoX := by
  have nm := mh_num
  have r1 := runN_c0 hT a
  have ln := rowsEnds_len hT
  have nr := noRow_ed (T := T) a 6 1 (rowsEnds T) ha.1 ha.2 (by omega)
  rw [show edF T 6 1 (rowsEnds T) = emptyD T from rfl, show ((1 : Nat) : Int) + a - 1 = a by omega] at nr
  have hbt : backTakes T a = (noRow T a (rowsEnds T) && (decide ((runN T a c0).n = a) && !stopB T (runN T a c0))) := by
    rw [nr]; unfold backTakes; rw [Bool.and_assoc]
  rw [hbt]
  refine Ct.of (by decide) [some (.ref md), some (jI (a : Nat)), none, none] rfl (Nat.le_of_ble_eq_true rfl) (fun K C E N0 => ?_)
  refine k_aload_n C dX3_isBack_0 rfl ?_
  refine kx_S C rfl ms_X3_147 dX3_isBack_1 ((c_mLastRows G hT)) rfl rfl (Nat.le_of_ble_eq_true rfl) ⟨(Nat.le_of_ble_eq_true rfl), (Nat.le_of_ble_eq_true rfl)⟩ (by omega) (fun v h1 hp_ => ?_) (fun _ _ hx => hx.elim)
  obtain ⟨l, ar, f, rfl, A1, R1, E1⟩ := hp_
  refine k_astore_n C dX3_isBack_4 (Nat.le_of_ble_eq_true rfl) rfl ?_
  refine k_iconst C dX3_isBack_5 ?_
  refine k_istore_n C dX3_isBack_6 (Nat.le_of_ble_eq_true rfl) rfl ?_
  have loop : ∀ (j d l ar cap n k : Nat) (hh : Hp) (f : Int → Option Nat) (rows : List Rw), d + j = a → n ≤ 10 + d * 30 + (if 24 < rows.length then 204 else 0) → k ≤ 45 + d * 200 + (if 24 < rows.length then 1800 else 0) → rows.length ≤ 192 → isAL w hh l ar rows.length cap f → isRms hh rows f → (∀ r ∈ rows, RwOk T d r) → Ext h hh → noRow T j rows = noRow T a (rowsEnds T) → Wk w K hh n k 7 [some (.ref md), some (jI (a : Nat)), some (.ref l), some (jI (d : Nat))] [] := by
    intro j
    induction j with
    | zero =>
      intro d l ar cap n k hh f rows hd hn hk h2 h3 h4 h5 h6 h7
      have i1 : (if 24 < rows.length then 204 else 0) ≤ 204 := by split <;> omega
      have i2 : (if 24 < rows.length then 1800 else 0) ≤ 1800 := by split <;> omega
      have hd' : d = a := by omega
      subst hd'
      have l3 := h3.1
      have E' := E
      rw [← h7] at E'
      have hn' : n ≤ 10 + d * 30 + 204 := by split at hn <;> omega
      have hk' : k ≤ 45 + d * 200 + 1800 := by split at hk <;> omega
      have mdE := (G.ext h6).1
      refine k_iload_n C dX3_isBack_7 rfl ?_
      refine k_iload_n C dX3_isBack_8 rfl ?_
      refine k_icmp_ge C dX3_isBack_9 (tgt := 35) (by decide) (by omega) (fun g1 => ?_) (fun g2 => ?_)
      · refine k_aload_n C dX3_isBack_35 rfl ?_
        refine k_iload_n C dX3_isBack_36 rfl ?_
        refine kx_V C rfl mv_X3_81 dX3_isBack_37 ((c_run (R := d) (by omega) (G.ext h6) hT)) (by assumption) rfl rfl (Nat.le_of_ble_eq_true rfl) ⟨(Nat.le_of_ble_eq_true rfl), (Nat.le_of_ble_eq_true rfl)⟩ (by omega) (fun v h9 hp_ => ?_) (fun _ _ hx => hx.elim)
        obtain ⟨q, tp, rfl, q0, tp0, W9, E9⟩ := hp_
        have W91 := W9.1
        have l9 := E9.2 _ _ l3
        refine k_astore_n C dX3_isBack_40 (Nat.le_of_ble_eq_true rfl) rfl ?_
        refine k_aload_n C dX3_isBack_41 rfl ?_
        refine kx_V C rfl mv_X3_155 dX3_isBack_42 ((c_isEmpty (by omega) l9)) (by assumption) rfl rfl (Nat.le_of_ble_eq_true rfl) ⟨(Nat.le_of_ble_eq_true rfl), (Nat.le_of_ble_eq_true rfl)⟩ (by omega) (fun v k2 hp_ => ?_) (fun _ _ hx => hx.elim)
        obtain ⟨rfl, rfl⟩ := hp_
        have no : (noRow T 0 rows && (decide ((runN T d c0).n = d) && !stopB T (runN T d c0))) = false → Wk w K k2 (n + 2) (k + (11 + 2 * d)) 67 [some (.ref md), some (jI (d : Nat)), some (.ref l), some (.ref q)] [] := by
          intro z
          refine k_iconst C dX3_isBack_67 ?_
          exact k_zret (b := false) C E' dX3_isBack_68 (by omega) ⟨by rw [z], h6.trans E9⟩
        refine k_ifeq_b C dX3_isBack_45 (tgt := 67) (by decide) (fun g5 => ?_) (fun g6 => ?_)
        · exact no (by rw [show noRow T 0 rows = decide (rows.length = 0) from rfl, decide_eq_false (show ¬ rows.length = 0 from fun z => (of_decide_eq_false g5) (by omega))]; rfl)
        · have g6' : (rows.length : Int) = 0 := of_decide_eq_true g6
          refine k_aload_n C dX3_isBack_48 rfl ?_
          refine k_getN C fn_X3_112 dX3_isBack_49 (by assumption) (by rfl) ?_
          refine k_iload_n C dX3_isBack_52 rfl ?_
          refine k_icmp_ne C dX3_isBack_53 (tgt := 67) (by decide) (by omega) (fun g7 => ?_) (fun g8 => ?_)
          · exact no (by rw [decide_eq_false (show ¬ (runN T d c0).n = d by omega)]; rw [Bool.false_and, Bool.and_false])
          · refine k_aload_n C dX3_isBack_56 rfl ?_
            refine kx_V C rfl mv_X3_109 dX3_isBack_57 ((c_rnStopped W9 ((G.ext h6).ext E9) hT r1.1)) (by assumption) rfl rfl (Nat.le_of_ble_eq_true rfl) ⟨(Nat.le_of_ble_eq_true rfl), (Nat.le_of_ble_eq_true rfl)⟩ (by omega) (fun v k3 hp_ => ?_) (fun _ _ hx => hx.elim)
            obtain ⟨rfl, rfl⟩ := hp_
            refine k_ifne_b C dX3_isBack_60 (tgt := 67) (by decide) (fun g9 => ?_) (fun g10 => ?_)
            · exact no (by rw [g9]; rw [Bool.not_true, Bool.and_false, Bool.and_false])
            · refine k_iconst C dX3_isBack_63 ?_
              refine k_goto C dX3_isBack_64 (tgt := 68) (by decide) ?_
              exact k_zret (b := true) C E' dX3_isBack_68 (by omega) ⟨by rw [show noRow T 0 rows = decide (rows.length = 0) from rfl, decide_eq_true (show rows.length = 0 by omega), decide_eq_true (show (runN T d c0).n = d by omega), g10]; rfl, h6.trans E9⟩
      · omega
    | succ j ih =>
      intro d l ar cap n k hh f rows hd hn hk h2 h3 h4 h5 h6 h7
      have i1 : (if 24 < rows.length then 204 else 0) ≤ 204 := by split <;> omega
      have i2 : (if 24 < rows.length then 1800 else 0) ≤ 1800 := by split <;> omega
      have G' := G.ext h6
      have l3 := h3.1
      refine k_iload_n C dX3_isBack_7 rfl ?_
      refine k_iload_n C dX3_isBack_8 rfl ?_
      refine k_icmp_ge C dX3_isBack_9 (tgt := 35) (by decide) (by omega) (fun g1 => ?_) (fun g2 => ?_)
      · omega
      · refine k_aload_n C dX3_isBack_12 rfl ?_
        refine kx_V C rfl mv_X3_23 dX3_isBack_13 ((c_size l3)) (by assumption) rfl rfl (Nat.le_of_ble_eq_true rfl) ⟨(Nat.le_of_ble_eq_true rfl), (Nat.le_of_ble_eq_true rfl)⟩ (by omega) (fun v k2 hp_ => ?_) (fun _ _ hx => hx.elim)
        obtain ⟨rfl, rfl⟩ := hp_
        refine k_bipush C dX3_isBack_16 (by decide) ?_
        rw [show noRow T (j + 1) rows = if 24 < rows.length then false else noRow T j (ahR T rows []) from rfl] at h7
        refine k_icmp_le C dX3_isBack_18 (tgt := 23) (by decide) (by omega) (fun g3 => ?_) (fun g4 => ?_)
        · have hle : ¬ 24 < rows.length := by omega
          rw [if_neg hle] at hn hk h7
          have len := ahR_len hT (show rows.length ≤ 24 by omega)
          have q1 := mh_le len
          refine k_aload_n C dX3_isBack_23 rfl ?_
          refine k_aload_n C dX3_isBack_24 rfl ?_
          refine kx_S C rfl ms_X3_151 dX3_isBack_25 ((c_mAhead G' hT h3 h4 (by omega) (fun r hr ↦ (h5 r hr).le (by omega)))) rfl rfl (Nat.le_of_ble_eq_true rfl) ⟨(Nat.le_of_ble_eq_true rfl), (Nat.le_of_ble_eq_true rfl)⟩ (by omega) (fun v h8 hp_ => ?_) (fun _ _ hx => hx.elim)
          obtain ⟨l2, ar2, f2, rfl, A2, R2, E2⟩ := hp_
          have ok2 := ahR_ok hT rows [] h5 (fun r hr => by cases hr)
          have E02 := h6.trans E2
          generalize hres : ahR T rows [] = res at *
          refine k_astore_n C dX3_isBack_28 (Nat.le_of_ble_eq_true rfl) rfl ?_
          refine k_iinc C dX3_isBack_29 rfl rfl ?_
          refine k_goto C dX3_isBack_32 (tgt := 7) (by decide) ?_
          refine ih (d + 1) l2 ar2 _ _ _ h8 f2 res (by omega) ?_ ?_ len A2 R2 ok2 E02 h7
          · by_cases hg : 24 < res.length
            · rw [if_pos hg]; omega
            · have := mh_le (show res.length ≤ 24 by omega)
              rw [if_neg hg]; omega
          · by_cases hg : 24 < res.length
            · rw [if_pos hg]; omega
            · have := mh_le (show res.length ≤ 24 by omega)
              rw [if_neg hg]; omega
        · rw [if_pos (by omega)] at h7
          refine k_iconst C dX3_isBack_21 ?_
          exact k_zret (b := false) C E dX3_isBack_22 (by omega) ⟨by rw [← h7]; rfl, h6⟩
  exact loop a 0 l ar _ _ _ h1 f (rowsEnds T) (by omega) (by rw [if_neg (by omega)]; omega) (by rw [if_neg (by omega)]; omega) (by omega) A1 R1 (fun r hr => rowsEnds_ok r hr) E1 rfl
theorem c_mBackInX {w : Wd} {h : Hp} {m : Nat} {L : ML} {σ : Sg} {th i : Int} {s : Int64} (H : isMo w h m L σ th s) (hσ : SgOk σ) (hi : i32 i) : Ct w yX3_backIn (ws_ yX3_backIn cX3_backIn 2 (some FieldType.int)) 11 284 400 3100 [.ref m, jI i] h (qPost w h m L σ s (oneK σ i) (backNow (σ.ms i.toNat).1)) NoX := by
  have hm := H.1
  unfold oneK
  refine Ct.of (by decide) [some (.ref m), some (jI i)] rfl (Nat.le_of_ble_eq_true rfl) (fun K C E N0 => ?_)
  refine k_aload_n C dX3_backIn_0 rfl ?_
  refine k_iconst C dX3_backIn_1 ?_
  refine k_put C fg_X3_19 ft_2_0 dX3_backIn_2 (by assumption) rfl rfl rfl (fun h1 P1 => ?_)
  have H1 := H.own P1
  have hm1 := H1.1
  have U1 := P1.upd
  refine k_aload_n C dX3_backIn_5 rfl ?_
  refine k_iload_n C dX3_backIn_6 rfl ?_
  refine kx_V C rfl mv_X3_44 dX3_backIn_7 ((c_mIsMachine H1 hσ hi)) (by assumption) rfl rfl (Nat.le_of_ble_eq_true rfl) ⟨(Nat.le_of_ble_eq_true rfl), (Nat.le_of_ble_eq_true rfl)⟩ (by omega) (fun v k1 hp_ => ?_) (fun _ _ hx => hx.elim)
  obtain ⟨rfl, rfl⟩ := hp_
  cases hok : mchOk σ i with
  | false =>
    refine k_ifeq_b C dX3_backIn_10 (tgt := 30) (by decide) (fun _ => ?_) (fun z => by cases z)
    rw [hok] at E
    refine k_aload_n C dX3_backIn_30 rfl ?_
    refine k_iconst C dX3_backIn_31 ?_
    refine kx_V C rfl mv_X3_31 dX3_backIn_32 ((c_mRefuse (z := 1) H1)) (by assumption) rfl rfl (Nat.le_of_ble_eq_true rfl) ⟨(Nat.le_of_ble_eq_true rfl), (Nat.le_of_ble_eq_true rfl)⟩ (by omega) (fun v h2 hp_ => ?_) (fun _ _ hx => hx.elim)
    obtain ⟨rfl, H2, U2⟩ := hp_
    exact k_iret C E dX3_backIn_35 (by omega) ⟨H2, U1.trans U2 (fun x hx => Or.inl hx), 0, rfl, fun z => (by cases z)⟩
  | true =>
    refine k_ifeq_b C dX3_backIn_10 (tgt := 30) (by decide) (fun z => by cases z) (fun _ => ?_)
    rw [hok] at E
    obtain ⟨f, A, hin, hf, M⟩ := H1.at hok
    have mok := hσ.2.2.1 i.toNat (by omega)
    have l1 := A.1
    have M1 := M.1
    refine k_aload_n C dX3_backIn_13 rfl ?_
    refine k_get C fg_X3_10 dX3_backIn_14 (by assumption) (by rfl) ?_
    refine k_iload_n C dX3_backIn_17 rfl ?_
    refine kx_V C rfl mv_X3_48 dX3_backIn_18 ((c_get A hin hf)) (by assumption) rfl rfl (Nat.le_of_ble_eq_true rfl) ⟨(Nat.le_of_ble_eq_true rfl), (Nat.le_of_ble_eq_true rfl)⟩ (by omega) (fun v k1 hp_ => ?_) (fun _ _ hx => hx.elim)
    obtain ⟨rfl, rfl⟩ := hp_
    refine k_castO C ck_X3_35_5 dX3_backIn_21 (by assumption) ?_
    refine kx_S C rfl ms_X3_205 dX3_backIn_24 ((c_mBackNow M mok.1)) rfl rfl (Nat.le_of_ble_eq_true rfl) ⟨(Nat.le_of_ble_eq_true rfl), (Nat.le_of_ble_eq_true rfl)⟩ (by omega) (fun v h3 hp_ => ?_) (fun _ _ hx => hx.elim)
    obtain ⟨rfl, E3⟩ := hp_
    refine k_goto C dX3_backIn_27 (tgt := 35) (by decide) ?_
    exact k_iret C E dX3_backIn_35 (by omega) ⟨H1.ext E3, U1.trans (E3.upd [m]) (fun x hx => Or.inl hx), _, rfl, fun _ => rfl⟩
