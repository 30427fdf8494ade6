/-! ===== the model: tagged ===== -/
set_option maxRecDepth 100000
theorem iu {a s : Nat} (ha : a < 2147483648) (hs : s = 1 ∨ s = 2 ∨ s = 4 ∨ s = 8 ∨ s = 16) : ((Int32.ofInt (a : Int)).toUInt32 >>> ((Int32.ofInt (s : Int)).toUInt32 &&& Int32.toUInt32 31)).toInt32.toBitVec.toNat = a / 2 ^ s := by
  have e : ((Int32.ofInt (s : Int)).toUInt32 &&& Int32.toUInt32 31).toNat % 32 = s := by
    rcases hs with rfl | rfl | rfl | rfl | rfl <;> decide
  show ((Int32.ofInt (a : Int)).toUInt32 >>> ((Int32.ofInt (s : Int)).toUInt32 &&& Int32.toUInt32 31)).toNat = a / 2 ^ s
  rw [UInt32.toNat_shiftRight, e, Nat.shiftRight_eq_div_pow]
  congr 1
  show (Int32.ofInt (a : Int)).toBitVec.toNat = a
  rw [oi_nat (by omega) (by omega), Int.toNat_natCast]
theorem log2_sh {n s : Nat} (h : 2 ^ s ≤ n) : (n / 2 ^ s).log2 + s = n.log2 ∧ 1 ≤ n / 2 ^ s := by
  have p := Nat.two_pow_pos s
  have h1 : 1 ≤ n := by omega
  obtain ⟨a, b⟩ := log2_sp h1
  have ls : s ≤ n.log2 := (Nat.le_log2 (by omega)).mpr h
  have e : (n / 2 ^ s).log2 = n.log2 - s := by
    apply log2_of
    · rw [Nat.le_div_iff_mul_le p, ← Nat.pow_add, Nat.sub_add_cancel ls]; exact a
    · rw [Nat.div_lt_iff_lt_mul p, ← Nat.pow_add, show n.log2 - s + 1 + s = n.log2 + 1 by omega]; exact b
  exact ⟨by omega, (Nat.le_div_iff_mul_le p).mpr (by omega)⟩
theorem log2_s {n : Nat} (h : 1 ≤ n ∧ n < 4) : n.log2 = n / 2 := by
  obtain rfl | rfl | rfl : n = 1 ∨ n = 2 ∨ n = 3 := by omega
  · decide
  · decide
  · decide
theorem log2_all {r m : Nat} {b : Nat} (hr : 1 ≤ r ∧ r < 2 ^ 21) (hb : b < 2 ^ m) : (r * 2 ^ m + b).log2 = r.log2 + m := by
  obtain ⟨a1, a2⟩ := log2_sp hr.1
  have p := Nat.two_pow_pos m
  apply log2_of
  · rw [Nat.pow_add]
    have := Nat.mul_le_mul_right (2 ^ m) a1
    omega
  · rw [show r.log2 + m + 1 = (r.log2 + 1) + m by omega, Nat.pow_add]
    have := Nat.mul_le_mul_right (2 ^ m) (show r + 1 ≤ 2 ^ (r.log2 + 1) from a2)
    rw [Nat.add_mul] at this
    omega
theorem iuI {a s : Nat} (ha : a < 2147483648) (hs : s = 1 ∨ s = 2 ∨ s = 4 ∨ s = 8 ∨ s = 16) : ((Int32.ofInt (a : Int)).toUInt32 >>> ((Int32.ofInt (s : Int)).toUInt32 &&& Int32.toUInt32 31)).toInt32 = Int32.ofInt ((a : Int) / 2 ^ ((s : Nat) : Int).toNat) := by
  rw [nj_shr]
  exact oi_bv (iu ha hs)
theorem c_nlz {w : Wd} {h : Hp} {row : Nat} (hr : 1 ≤ row ∧ row < 2 ^ 30) : Ct w yJ22_numberOfLeadingZeros (ws_ yJ22_numberOfLeadingZeros cJ22_numberOfLeadingZeros 2 (some FieldType.int)) 0 0 0 0 [jI (row : Nat)] h (fun v h' => v = some (jI (31 - (row.log2 : Nat))) ∧ h' = h) NoX := by
  obtain ⟨hr1, hr2⟩ := hr
  have l30 : row.log2 ≤ 29 := log2_le hr1 hr2
  refine Ct.of (by decide) [some (jI (row : Nat)), none] rfl (Nat.le_of_ble_eq_true rfl) (fun K C E N0 => ?_)
  have s73 : ∀ (x : Nat) (c : Int), 1 ≤ x → x < 4 → c - (x.log2 : Nat) = 31 - (row.log2 : Nat) → 0 ≤ c ∧ c ≤ 31 → Wk w K h 0 0 73 [some (jI (x : Nat)), some (jI c)] [] := by
    intro x c h1 h2 h3 h4
    rw [log2_s ⟨h1, h2⟩] at h3
    refine k_iload_n C dJ22_numberOfLeadingZeros_73 rfl ?_
    refine k_iload_n C dJ22_numberOfLeadingZeros_74 rfl ?_
    refine k_iconst C dJ22_numberOfLeadingZeros_75 ?_
    refine k_iushr C dJ22_numberOfLeadingZeros_76 (iuI (s := 1) (by omega) (by decide)) ?_
    rw [show ((x : Nat) : Int) / 2 ^ (1 : Int).toNat = ((x / 2 ^ 1 : Nat) : Int) from nj_shr x 1]
    refine k_isub C dJ22_numberOfLeadingZeros_77 ?_
    rw [show c - ((x / 2 ^ 1 : Nat) : Int) = 31 - (row.log2 : Nat) by rw [← h3]]
    exact k_iret C E dJ22_numberOfLeadingZeros_78 (by omega) ⟨rfl, rfl⟩
  have s61 : ∀ (x : Nat) (c : Int), 1 ≤ x → x < 16 → c - (x.log2 : Nat) = 31 - (row.log2 : Nat) → 3 ≤ c ∧ c ≤ 31 → Wk w K h 0 0 61 [some (jI (x : Nat)), some (jI c)] [] := by
    intro x c h1 h2 h3 h4
    refine k_iload_n C dJ22_numberOfLeadingZeros_61 rfl ?_
    refine k_iconst C dJ22_numberOfLeadingZeros_62 ?_
    refine k_icmp_lt C dJ22_numberOfLeadingZeros_63 (tgt := 73) (by decide) (by omega) (fun g1 => ?_) (fun g2 => ?_)
    · exact s73 x c h1 (by omega) h3 (by omega)
    · obtain ⟨e1, e2⟩ := log2_sh (n := x) (s := 2) (by omega)
      refine k_iinc C dJ22_numberOfLeadingZeros_66 rfl rfl ?_
      refine k_iload_n C dJ22_numberOfLeadingZeros_69 rfl ?_
      refine k_iconst C dJ22_numberOfLeadingZeros_70 ?_
      refine k_iushr C dJ22_numberOfLeadingZeros_71 (iuI (s := 2) (by omega) (by decide)) ?_
      rw [show ((x : Nat) : Int) / 2 ^ (2 : Int).toNat = ((x / 2 ^ 2 : Nat) : Int) from nj_shr x 2]
      refine k_istore_n C dJ22_numberOfLeadingZeros_72 (Nat.le_of_ble_eq_true rfl) rfl ?_
      exact s73 (x / 2 ^ 2) (c + -2) e2 (by omega) (by omega) (by omega)
  have s48 : ∀ (x : Nat) (c : Int), 1 ≤ x → x < 256 → c - (x.log2 : Nat) = 31 - (row.log2 : Nat) → 7 ≤ c ∧ c ≤ 31 → Wk w K h 0 0 48 [some (jI (x : Nat)), some (jI c)] [] := by
    intro x c h1 h2 h3 h4
    refine k_iload_n C dJ22_numberOfLeadingZeros_48 rfl ?_
    refine k_bipush C dJ22_numberOfLeadingZeros_49 (by decide) ?_
    refine k_icmp_lt C dJ22_numberOfLeadingZeros_51 (tgt := 61) (by decide) (by omega) (fun g1 => ?_) (fun g2 => ?_)
    · exact s61 x c h1 (by omega) h3 (by omega)
    · obtain ⟨e1, e2⟩ := log2_sh (n := x) (s := 4) (by omega)
      refine k_iinc C dJ22_numberOfLeadingZeros_54 rfl rfl ?_
      refine k_iload_n C dJ22_numberOfLeadingZeros_57 rfl ?_
      refine k_iconst C dJ22_numberOfLeadingZeros_58 ?_
      refine k_iushr C dJ22_numberOfLeadingZeros_59 (iuI (s := 4) (by omega) (by decide)) ?_
      rw [show ((x : Nat) : Int) / 2 ^ (4 : Int).toNat = ((x / 2 ^ 4 : Nat) : Int) from nj_shr x 4]
      refine k_istore_n C dJ22_numberOfLeadingZeros_60 (Nat.le_of_ble_eq_true rfl) rfl ?_
      exact s61 (x / 2 ^ 4) (c + -4) e2 (by omega) (by omega) (by omega)
  have s33 : ∀ (x : Nat) (c : Int), 1 ≤ x → x < 65536 → c - (x.log2 : Nat) = 31 - (row.log2 : Nat) → 15 ≤ c ∧ c ≤ 31 → Wk w K h 0 0 33 [some (jI (x : Nat)), some (jI c)] [] := by
    intro x c h1 h2 h3 h4
    refine k_iload_n C dJ22_numberOfLeadingZeros_33 rfl ?_
    refine k_sipush C dJ22_numberOfLeadingZeros_34 (by decide) ?_
    refine k_icmp_lt C dJ22_numberOfLeadingZeros_37 (tgt := 48) (by decide) (by omega) (fun g1 => ?_) (fun g2 => ?_)
    · exact s48 x c h1 (by omega) h3 (by omega)
    · obtain ⟨e1, e2⟩ := log2_sh (n := x) (s := 8) (by omega)
      refine k_iinc C dJ22_numberOfLeadingZeros_40 rfl rfl ?_
      refine k_iload_n C dJ22_numberOfLeadingZeros_43 rfl ?_
      refine k_bipush C dJ22_numberOfLeadingZeros_44 (by decide) ?_
      refine k_iushr C dJ22_numberOfLeadingZeros_46 (iuI (s := 8) (by omega) (by decide)) ?_
      rw [show ((x : Nat) : Int) / 2 ^ (8 : Int).toNat = ((x / 2 ^ 8 : Nat) : Int) from nj_shr x 8]
      refine k_istore_n C dJ22_numberOfLeadingZeros_47 (Nat.le_of_ble_eq_true rfl) rfl ?_
      exact s48 (x / 2 ^ 8) (c + -8) e2 (by omega) (by omega) (by omega)
  refine k_iload_n C dJ22_numberOfLeadingZeros_0 rfl ?_
  refine k_if_gt C dJ22_numberOfLeadingZeros_1 (tgt := 15) (by decide) (by omega) (fun g1 => ?_) (fun g2 => ?_)
  · refine k_bipush C dJ22_numberOfLeadingZeros_15 (by decide) ?_
    refine k_istore_n C dJ22_numberOfLeadingZeros_17 (Nat.le_of_ble_eq_true rfl) rfl ?_
    refine k_iload_n C dJ22_numberOfLeadingZeros_18 rfl ?_
    refine k_ldcw C q1609 (z := 65536) rfl dJ22_numberOfLeadingZeros_19 ?_
    refine k_icmp_lt C dJ22_numberOfLeadingZeros_22 (tgt := 33) (by decide) (by omega) (fun g3 => ?_) (fun g4 => ?_)
    · exact s33 row 31 hr1 (by omega) rfl (by omega)
    · obtain ⟨e1, e2⟩ := log2_sh (n := row) (s := 16) (by omega)
      refine k_iinc C dJ22_numberOfLeadingZeros_25 rfl rfl ?_
      refine k_iload_n C dJ22_numberOfLeadingZeros_28 rfl ?_
      refine k_bipush C dJ22_numberOfLeadingZeros_29 (by decide) ?_
      refine k_iushr C dJ22_numberOfLeadingZeros_31 (iuI (s := 16) (by omega) (by decide)) ?_
      rw [show ((row : Nat) : Int) / 2 ^ (16 : Int).toNat = ((row / 2 ^ 16 : Nat) : Int) from nj_shr row 16]
      refine k_istore_n C dJ22_numberOfLeadingZeros_32 (Nat.le_of_ble_eq_true rfl) rfl ?_
      exact s33 (row / 2 ^ 16) (31 + -16) e2 (by omega) (by omega) (by omega)
  · omega
theorem c_mLength {w : Wd} {h : Hp} {row : Nat} (hr : 1 ≤ row ∧ row < 2 ^ 30) : Ct w yX3_length (ws_ yX3_length cX3_length 1 (some FieldType.int)) 1 21 0 0 [jI (row : Nat)] h (fun v h' => v = some (jI (row.log2 : Nat)) ∧ h' = h) NoX := by
  refine Ct.of (by decide) [some (jI (row : Nat))] rfl (Nat.le_of_ble_eq_true rfl) (fun K C E N0 => ?_)
  refine k_bipush C dX3_length_0 (by decide) ?_
  refine k_iload_n C dX3_length_2 rfl ?_
  refine kx_S C rfl ms_X3_246 dX3_length_3 ((c_nlz hr)) rfl rfl (Nat.le_of_ble_eq_true rfl) ⟨(Nat.le_of_ble_eq_true rfl), (Nat.le_of_ble_eq_true rfl)⟩ (by omega) (fun v kk hp_ => ?_) (fun _ _ hx => hx.elim)
  obtain ⟨rfl, rfl⟩ := hp_
  refine k_isub C dX3_length_6 ?_
  rw [show (31 : Int) - (31 - ((row.log2 : Nat) : Int)) = (row.log2 : Nat) by omega]
  exact k_iret C E dX3_length_7 (by omega) ⟨rfl, rfl⟩
theorem c_mTaggedNow {w : Wd} {h : Hp} {m t row n : Nat} {L : ML} {σ : Sg} {th : Int} {s : Int64} (H : isMo w h m L σ th s) (hσ : SgOk σ) (ht : t < σ.k) (hr : 1 ≤ row ∧ row < 2 ^ 21) (hn : n ≤ 1000) : Ct w yX3_taggedNow (ws_ yX3_taggedNow cX3_taggedNow 10 (some FieldType.int)) 3 64 0 0 [.ref m, jI (t : Nat), jI (row : Nat), jI (n : Nat)] h (fun v h' => v = some (jI (tagR (σ.tg t) n row)) ∧ h' = h) NoX := by
  have hm := H.1
  obtain ⟨ft, At, Ft⟩ := H.2.2.1
  have lt := At.1
  obtain ⟨f, e, f0, f1, f2⟩ := H.2.2.2.2 t ht
  have hg := hσ.2.2.2.1 t ht
  have hft := Ft t ht
  generalize σ.tg t = g at *
  have hg1 := hg.1
  refine Ct.of (by decide) [some (.ref m), some (jI (t : Nat)), some (jI (row : Nat)), some (jI (n : Nat)), none, none, none, none, none, none] rfl (Nat.le_of_ble_eq_true rfl) (fun K C E N0 => ?_)
  generalize hfin : tagR g n row = fin at *
  refine k_aload_n C dX3_taggedNow_0 rfl ?_
  refine k_get C fg_X3_16 dX3_taggedNow_1 (by assumption) (by rfl) ?_
  refine k_iload_n C dX3_taggedNow_4 rfl ?_
  refine kx_V C rfl mv_X3_48 dX3_taggedNow_5 ((c_get At (by omega) hft)) (by assumption) rfl rfl (Nat.le_of_ble_eq_true rfl) ⟨(Nat.le_of_ble_eq_true rfl), (Nat.le_of_ble_eq_true rfl)⟩ (by omega) (fun v kk hp_ => ?_) (fun _ _ hx => hx.elim)
  obtain ⟨rfl, rfl⟩ := hp_
  refine k_castA C q1421 rfl rfl dX3_taggedNow_8 (by assumption) ?_
  refine k_astore C dX3_taggedNow_11 (Nat.le_of_ble_eq_true rfl) rfl ?_
  refine k_iload_n C dX3_taggedNow_13 rfl ?_
  refine k_istore C dX3_taggedNow_14 (Nat.le_of_ble_eq_true rfl) rfl ?_
  refine k_iconst C dX3_taggedNow_16 ?_
  refine k_istore C dX3_taggedNow_17 (Nat.le_of_ble_eq_true rfl) rfl ?_
  have loop : ∀ (d i r : Nat), i + d = n → (1 ≤ r ∧ r < 2 ^ 21) → tagR g d r = fin → Wk w K kk 0 0 19 [some (.ref m), some (jI (t : Nat)), some (jI (row : Nat)), some (jI (n : Nat)), some (.ref (L.B t)), some (jI (r : Nat)), some (jI (i : Nat)), none, none, none] [] := by
    intro d
    induction d with
    | zero =>
      intro i r hi hr hf
      have e : ((r : Nat) : Int) = fin := hf
      refine k_iload C dX3_taggedNow_19 rfl ?_
      refine k_iload_n C dX3_taggedNow_21 rfl ?_
      refine k_icmp_ge C dX3_taggedNow_22 (tgt := 123) (by decide) (by omega) (fun g1 => ?_) (fun g2 => ?_)
      · refine k_iload C dX3_taggedNow_123 rfl ?_
        rw [e]
        exact k_iret C E dX3_taggedNow_125 (by omega) ⟨rfl, rfl⟩
      · omega
    | succ d ih =>
      intro i r hi hr hf
      unfold tagR at hf
      obtain ⟨w1, w2, w3⟩ := wordT_b hg r
      obtain ⟨b1, b2, b3, b4⟩ := stepT_b hg hr
      have l20 : r.log2 ≤ 20 := log2_le hr.1 hr.2
      have hq : r / 2 ^ (r.log2 - 1) ≤ r := Nat.div_le_self _ _
      have hsp := log2_sp w1
      have hbit : f (1 + ((r / 2 ^ (r.log2 - 1) % 2 : Nat) : Int)) = ((wordT g r : Nat) : Int) := by
        unfold wordT
        split
        · rename_i e; rw [e]; exact f2
        · rename_i e; rw [show r / 2 ^ (r.log2 - 1) % 2 = 0 by omega]; exact f1
      refine k_iload C dX3_taggedNow_19 rfl ?_
      refine k_iload_n C dX3_taggedNow_21 rfl ?_
      refine k_icmp_ge C dX3_taggedNow_22 (tgt := 123) (by decide) (by omega) (fun g1 => ?_) (fun g2 => ?_)
      · omega
      · refine k_iload C dX3_taggedNow_25 rfl ?_
        refine kx_S C rfl ms_X3_251 dX3_taggedNow_27 ((c_mLength ⟨hr.1, by omega⟩)) rfl rfl (Nat.le_of_ble_eq_true rfl) ⟨(Nat.le_of_ble_eq_true rfl), (Nat.le_of_ble_eq_true rfl)⟩ (by omega) (fun v kk hp_ => ?_) (fun _ _ hx => hx.elim)
        obtain ⟨rfl, rfl⟩ := hp_
        refine k_aload C dX3_taggedNow_30 rfl ?_
        refine k_iconst C dX3_taggedNow_32 ?_
        refine k_iald C dX3_taggedNow_33 (by assumption) (by rfl) (by omega) ?_
        rw [f0]
        refine k_icmp_lt C dX3_taggedNow_34 (tgt := 123) (by decide) (by omega) (fun g3 => ?_) (fun g4 => ?_)
        · rw [if_pos (by omega)] at hf
          refine k_iload C dX3_taggedNow_123 rfl ?_
          rw [hf]
          exact k_iret C E dX3_taggedNow_125 (by omega) ⟨rfl, rfl⟩
        · rw [if_neg (by omega)] at hf
          refine k_aload C dX3_taggedNow_37 rfl ?_
          refine k_iconst C dX3_taggedNow_39 ?_
          refine k_iload C dX3_taggedNow_40 rfl ?_
          refine k_iload C dX3_taggedNow_42 rfl ?_
          refine kx_S C rfl ms_X3_251 dX3_taggedNow_44 ((c_mLength ⟨hr.1, by omega⟩)) rfl rfl (Nat.le_of_ble_eq_true rfl) ⟨(Nat.le_of_ble_eq_true rfl), (Nat.le_of_ble_eq_true rfl)⟩ (by omega) (fun v kk hp_ => ?_) (fun _ _ hx => hx.elim)
          obtain ⟨rfl, rfl⟩ := hp_
          refine k_iconst C dX3_taggedNow_47 ?_
          refine k_isub C dX3_taggedNow_48 ?_
          rw [show ((r.log2 : Nat) : Int) - 1 = ((r.log2 - 1 : Nat) : Int) by omega]
          refine k_ishr C dX3_taggedNow_49 (by omega) ?_
          rw [nj_shr]
          generalize r / 2 ^ (r.log2 - 1) = Q at *
          refine k_iconst C dX3_taggedNow_50 ?_
          refine k_iand C dX3_taggedNow_51 (by omega) ?_
          rw [Int.toNat_natCast, show (1 : Int).toNat = 1 from rfl, Nat.and_one_is_mod]
          refine k_iadd C dX3_taggedNow_52 ?_
          refine k_iald C dX3_taggedNow_53 (by assumption) (by rfl) (by omega) ?_
          rw [hbit]
          refine k_istore C dX3_taggedNow_54 (Nat.le_of_ble_eq_true rfl) rfl ?_
          refine k_iload C dX3_taggedNow_56 rfl ?_
          refine kx_S C rfl ms_X3_251 dX3_taggedNow_58 ((c_mLength ⟨w1, by omega⟩)) rfl rfl (Nat.le_of_ble_eq_true rfl) ⟨(Nat.le_of_ble_eq_true rfl), (Nat.le_of_ble_eq_true rfl)⟩ (by omega) (fun v kk hp_ => ?_) (fun _ _ hx => hx.elim)
          obtain ⟨rfl, rfl⟩ := hp_
          have hall : r * 2 ^ (wordT g r).log2 + wordT g r % 2 ^ (wordT g r).log2 = allT g r := by
            unfold allT
            rw [Nat.mod_eq_sub_mod hsp.1, Nat.mod_eq_of_lt (by have := hsp.2; rw [Nat.pow_succ] at this; omega)]
          have hmod := Nat.mod_lt (wordT g r) (Nat.two_pow_pos (wordT g r).log2)
          have hal : (allT g r).log2 = r.log2 + (wordT g r).log2 := by rw [← hall]; exact log2_all hr hmod
          have hall1 : 1 ≤ allT g r := by
            rw [← hall]
            have := Nat.mul_le_mul hr.1 (Nat.two_pow_pos (wordT g r).log2)
            omega
          have p32 := pow_le w3
          have p1' := Nat.two_pow_pos (wordT g r).log2
          refine k_istore C dX3_taggedNow_61 (Nat.le_of_ble_eq_true rfl) rfl ?_
          refine k_iload C dX3_taggedNow_63 rfl ?_
          refine k_iload C dX3_taggedNow_65 rfl ?_
          refine k_ishl C dX3_taggedNow_67 (by omega) ?_
          rw [nj_shl]
          refine k_iload C dX3_taggedNow_68 rfl ?_
          refine k_iconst C dX3_taggedNow_70 ?_
          refine k_iload C dX3_taggedNow_71 rfl ?_
          refine k_ishl C dX3_taggedNow_73 (by omega) ?_
          rw [show (1 : Int) * 2 ^ (((wordT g r).log2 : Nat) : Int).toNat = ((2 ^ (wordT g r).log2 : Nat) : Int) by have := nj_shl 1 (wordT g r).log2; rw [Nat.one_mul] at this; exact this]
          refine k_iconst C dX3_taggedNow_74 ?_
          refine k_isub C dX3_taggedNow_75 ?_
          rw [show ((2 ^ (wordT g r).log2 : Nat) : Int) - 1 = ((2 ^ (wordT g r).log2 - 1 : Nat) : Int) by omega]
          refine k_iand C dX3_taggedNow_76 (by omega) ?_
          rw [Int.toNat_natCast, Int.toNat_natCast, Nat.and_two_pow_sub_one_eq_mod]
          refine k_ior C dX3_taggedNow_77 (by omega) ?_
          rw [Int.toNat_natCast, Int.toNat_natCast, or_low hmod, hall]
          refine k_istore C dX3_taggedNow_78 (Nat.le_of_ble_eq_true rfl) rfl ?_
          refine k_iload C dX3_taggedNow_80 rfl ?_
          refine kx_S C rfl ms_X3_251 dX3_taggedNow_82 ((c_mLength ⟨hall1, by omega⟩)) rfl rfl (Nat.le_of_ble_eq_true rfl) ⟨(Nat.le_of_ble_eq_true rfl), (Nat.le_of_ble_eq_true rfl)⟩ (by omega) (fun v kk hp_ => ?_) (fun _ _ hx => hx.elim)
          obtain ⟨rfl, rfl⟩ := hp_
          refine k_aload C dX3_taggedNow_85 rfl ?_
          refine k_iconst C dX3_taggedNow_87 ?_
          refine k_iald C dX3_taggedNow_88 (by assumption) (by rfl) (by omega) ?_
          rw [f0, hal, show ((r.log2 + (wordT g r).log2 : Nat) : Int) = ((leftT g r + g.1 : Nat) : Int) by unfold leftT; omega]
          refine k_isub C dX3_taggedNow_89 ?_
          rw [show ((leftT g r + g.1 : Nat) : Int) - ((g.1 : Nat) : Int) = ((leftT g r : Nat) : Int) by omega]
          refine k_istore C dX3_taggedNow_90 (Nat.le_of_ble_eq_true rfl) rfl ?_
          refine k_iload C dX3_taggedNow_92 rfl ?_
          refine k_bipush C dX3_taggedNow_94 (by decide) ?_
          rw [stepT_log] at hf
          refine k_icmp_le C dX3_taggedNow_96 (tgt := 101) (by decide) (by omega) (fun g5 => ?_) (fun g6 => ?_)
          · rw [if_neg (by omega)] at hf
            have e2 : (1 : Int) * 2 ^ ((leftT g r : Nat) : Int).toNat = ((2 ^ leftT g r : Nat) : Int) := by have := nj_shl 1 (leftT g r); rw [Nat.one_mul] at this; exact this
            have e3 := Nat.two_pow_pos (leftT g r)
            have e4 := pow_le b3
            refine k_iload C dX3_taggedNow_101 rfl ?_
            refine k_iconst C dX3_taggedNow_103 ?_
            refine k_iload C dX3_taggedNow_104 rfl ?_
            refine k_ishl C dX3_taggedNow_106 (by omega) ?_
            rw [e2]
            refine k_iconst C dX3_taggedNow_107 ?_
            refine k_isub C dX3_taggedNow_108 ?_
            rw [show ((2 ^ leftT g r : Nat) : Int) - 1 = ((2 ^ leftT g r - 1 : Nat) : Int) by omega]
            refine k_iand C dX3_taggedNow_109 (by omega) ?_
            rw [Int.toNat_natCast, Int.toNat_natCast, Nat.and_two_pow_sub_one_eq_mod]
            refine k_iconst C dX3_taggedNow_110 ?_
            refine k_iload C dX3_taggedNow_111 rfl ?_
            refine k_ishl C dX3_taggedNow_113 (by omega) ?_
            rw [e2]
            have e5 := Nat.mod_lt (allT g r) e3
            refine k_ior C dX3_taggedNow_114 (by omega) ?_
            rw [Int.toNat_natCast, Int.toNat_natCast, Nat.or_comm]
            rw [show (2 ^ leftT g r ||| allT g r % 2 ^ leftT g r) = stepT g r by have := or_low (a := 1) e5; rw [Nat.one_mul] at this; rw [this]; unfold stepT; omega]
            have hst := log2_sp (stepT_pos (g := g) (row := r))
            rw [stepT_log] at hst
            have p21 := pow_le (show leftT g r + 1 ≤ 21 by omega)
            refine k_istore C dX3_taggedNow_115 (Nat.le_of_ble_eq_true rfl) rfl ?_
            refine k_iinc C dX3_taggedNow_117 rfl rfl ?_
            refine k_goto C dX3_taggedNow_120 (tgt := 19) (by decide) ?_
            exact Wk.sub (by repeat (first | exact trivial | apply Lle.so | apply Lle.no)) (ih (i + 1) (stepT g r) (by omega) ⟨stepT_pos, by omega⟩ hf)
          · rw [if_pos (by omega)] at hf
            refine k_iconst C dX3_taggedNow_99 ?_
            rw [hf]
            exact k_iret C E dX3_taggedNow_100 (by omega) ⟨rfl, rfl⟩
  exact loop n 0 row (by omega) hr hfin
theorem c_mTaggedX {w : Wd} {h : Hp} {m : Nat} {L : ML} {σ : Sg} {th t r n : Int} {s : Int64} (H : isMo w h m L σ th s) (hσ : SgOk σ) (ht : i32 t) (hr : i32 r) (hn : i32 n) : Ct w yX3_tagged (ws_ yX3_tagged cX3_tagged 4 (some FieldType.int)) 4 93 0 0 [.ref m, jI t, jI r, jI n] h (qPost w h m L σ s (tagK σ t r n) (tagR (σ.tg t.toNat) n.toNat r.toNat)) NoX := by
  have hm := H.1
  have hk4 := hσ.2.1
  unfold tagK
  unfold i32 at ht hr hn
  refine Ct.of (by decide) [some (.ref m), some (jI t), some (jI r), some (jI n)] rfl (Nat.le_of_ble_eq_true rfl) (fun K C E N0 => ?_)
  refine k_aload_n C dX3_tagged_0 rfl ?_
  refine k_iconst C dX3_tagged_1 ?_
  refine k_put C fg_X3_19 ft_2_0 dX3_tagged_2 (by assumption) rfl rfl rfl (fun h1 P1 => ?_)
  have H1 := H.own P1
  have hm1 := H1.1
  have U1 := P1.upd
  obtain ⟨ft, At, Ft⟩ := H1.2.2.1
  have lt := At.1
  refine k_iload_n C dX3_tagged_5 rfl ?_
  refine k_iconst C dX3_tagged_6 ?_
  refine k_aload_n C dX3_tagged_7 rfl ?_
  refine k_get C fg_X3_16 dX3_tagged_8 (by assumption) (by rfl) ?_
  refine kx_V C rfl mv_X3_23 dX3_tagged_11 ((c_size lt)) (by assumption) rfl rfl (Nat.le_of_ble_eq_true rfl) ⟨(Nat.le_of_ble_eq_true rfl), (Nat.le_of_ble_eq_true rfl)⟩ (by omega) (fun v kk hp_ => ?_) (fun _ _ hx => hx.elim)
  obtain ⟨rfl, rfl⟩ := hp_
  refine k_iconst C dX3_tagged_14 ?_
  refine k_isub C dX3_tagged_15 ?_
  refine kx_S C rfl ms_X3_27 dX3_tagged_16 ((c_is (v := t) (a := 0) (b := (σ.k : Int) - 1) (by unfold i32; omega))) rfl rfl (Nat.le_of_ble_eq_true rfl) ⟨(Nat.le_of_ble_eq_true rfl), (Nat.le_of_ble_eq_true rfl)⟩ (by omega) (fun v k1 hp_ => ?_) (fun _ _ hx => hx.elim)
  obtain ⟨rfl, rfl⟩ := hp_
  by_cases h1t : 0 ≤ t ∧ t ≤ (σ.k : Int) - 1
  · rw [decide_eq_true h1t]
    rw [if_pos (by omega)] at E
    refine k_ifne_b C dX3_tagged_19 (tgt := 28) (by decide) (fun _ => ?_) (fun z => by cases z)
    have two : ¬ ((1 ≤ r ∧ r ≤ 1023) ∧ (0 ≤ n ∧ n ≤ 200)) → Wk w K k1 0 0 60 [some (.ref m), some (jI t), some (jI r), some (jI n)] [] := by
      intro z
      rw [if_neg z] at E
      refine k_aload_n C dX3_tagged_60 rfl ?_
      refine k_iconst C dX3_tagged_61 ?_
      refine kx_V C rfl mv_X3_31 dX3_tagged_62 ((c_mRefuse (z := 2) H1)) (by assumption) rfl rfl (Nat.le_of_ble_eq_true rfl) ⟨(Nat.le_of_ble_eq_true rfl), (Nat.le_of_ble_eq_true rfl)⟩ (by omega) (fun v h2 hp_ => ?_) (fun _ _ hx => hx.elim)
      obtain ⟨rfl, H2, U2⟩ := hp_
      exact k_iret C E dX3_tagged_65 (by omega) ⟨H2, U1.trans U2 (fun x hx => Or.inl hx), 0, rfl, fun z => (by cases z)⟩
    refine k_iload_n C dX3_tagged_28 rfl ?_
    refine k_iconst C dX3_tagged_29 ?_
    refine k_sipush C dX3_tagged_30 (by decide) ?_
    refine kx_S C rfl ms_X3_27 dX3_tagged_33 ((c_is (v := r) (a := 1) (b := 1023) (by unfold i32; omega))) rfl rfl (Nat.le_of_ble_eq_true rfl) ⟨(Nat.le_of_ble_eq_true rfl), (Nat.le_of_ble_eq_true rfl)⟩ (by omega) (fun v k2 hp_ => ?_) (fun _ _ hx => hx.elim)
    obtain ⟨rfl, rfl⟩ := hp_
    by_cases h2 : 1 ≤ r ∧ r ≤ 1023
    · rw [decide_eq_true h2]
      refine k_ifeq_b C dX3_tagged_36 (tgt := 60) (by decide) (fun z => by cases z) (fun _ => ?_)
      refine k_iload_n C dX3_tagged_39 rfl ?_
      refine k_iconst C dX3_tagged_40 ?_
      refine k_sipush C dX3_tagged_41 (by decide) ?_
      refine kx_S C rfl ms_X3_27 dX3_tagged_44 ((c_is (v := n) (a := 0) (b := 200) (by unfold i32; omega))) rfl rfl (Nat.le_of_ble_eq_true rfl) ⟨(Nat.le_of_ble_eq_true rfl), (Nat.le_of_ble_eq_true rfl)⟩ (by omega) (fun v k2 hp_ => ?_) (fun _ _ hx => hx.elim)
      obtain ⟨rfl, rfl⟩ := hp_
      by_cases h3 : 0 ≤ n ∧ n ≤ 200
      · rw [decide_eq_true h3]
        rw [if_pos ⟨h2, h3⟩] at E
        refine k_ifeq_b C dX3_tagged_47 (tgt := 60) (by decide) (fun z => by cases z) (fun _ => ?_)
        obtain ⟨t', rfl⟩ : ∃ A : Nat, t = (A : Int) := ⟨t.toNat, by omega⟩
        obtain ⟨r', rfl⟩ : ∃ A : Nat, r = (A : Int) := ⟨r.toNat, by omega⟩
        obtain ⟨n', rfl⟩ : ∃ A : Nat, n = (A : Int) := ⟨n.toNat, by omega⟩
        refine k_aload_n C dX3_tagged_50 rfl ?_
        refine k_iload_n C dX3_tagged_51 rfl ?_
        refine k_iload_n C dX3_tagged_52 rfl ?_
        refine k_iload_n C dX3_tagged_53 rfl ?_
        refine kx_V C rfl mv_X3_254 dX3_tagged_54 ((c_mTaggedNow (t := t') (row := r') (n := n') H1 hσ (by omega) ⟨by omega, by omega⟩ (by omega))) (by assumption) rfl rfl (Nat.le_of_ble_eq_true rfl) ⟨(Nat.le_of_ble_eq_true rfl), (Nat.le_of_ble_eq_true rfl)⟩ (by omega) (fun v k3 hp_ => ?_) (fun _ _ hx => hx.elim)
        obtain ⟨rfl, rfl⟩ := hp_
        refine k_goto C dX3_tagged_57 (tgt := 65) (by decide) ?_
        exact k_iret C E dX3_tagged_65 (by omega) ⟨H1, U1, _, rfl, fun _ => rfl⟩
      · rw [decide_eq_false h3]
        refine k_ifeq_b C dX3_tagged_47 (tgt := 60) (by decide) (fun _ => ?_) (fun z => by cases z)
        exact two (fun z => h3 z.2)
    · rw [decide_eq_false h2]
      refine k_ifeq_b C dX3_tagged_36 (tgt := 60) (by decide) (fun _ => ?_) (fun z => by cases z)
      exact two (fun z => h2 z.1)
  · rw [decide_eq_false h1t]
    rw [if_neg (by omega)] at E
    refine k_ifne_b C dX3_tagged_19 (tgt := 28) (by decide) (fun z => by cases z) (fun _ => ?_)
    refine k_aload_n C dX3_tagged_22 rfl ?_
    refine k_iconst C dX3_tagged_23 ?_
    refine kx_V C rfl mv_X3_31 dX3_tagged_24 ((c_mRefuse (z := 1) H1)) (by assumption) rfl rfl (Nat.le_of_ble_eq_true rfl) ⟨(Nat.le_of_ble_eq_true rfl), (Nat.le_of_ble_eq_true rfl)⟩ (by omega) (fun v h2 hp_ => ?_) (fun _ _ hx => hx.elim)
    obtain ⟨rfl, H2, U2⟩ := hp_
    exact k_iret C E dX3_tagged_27 (by omega) ⟨H2, U1.trans U2 (fun x hx => Or.inl hx), 0, rfl, fun z => (by cases z)⟩
