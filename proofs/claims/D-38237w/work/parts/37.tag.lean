/-! ===== tags ===== -/
set_option maxRecDepth 100000
/-- a tag: how many it cuts; its two words -/
abbrev Tg : Type := Nat × Nat × Nat
def TgOk (g : Tg) : Prop := (1 ≤ g.1 ∧ g.1 ≤ 3) ∧ (1 ≤ g.2.1 ∧ g.2.1 ≤ 63) ∧ (1 ≤ g.2.2 ∧ g.2.2 ≤ 63)
def wordT (g : Tg) (row : Nat) : Nat := if row / 2 ^ (row.log2 - 1) % 2 = 1 then g.2.2 else g.2.1
def leftT (g : Tg) (row : Nat) : Nat := row.log2 + (wordT g row).log2 - g.1
def allT (g : Tg) (row : Nat) : Nat := row * 2 ^ (wordT g row).log2 + (wordT g row - 2 ^ (wordT g row).log2)
def stepT (g : Tg) (row : Nat) : Nat := allT g row % 2 ^ leftT g row + 2 ^ leftT g row
/-- what becomes of a row in so many turns; -1 if it grows too long -/
def tagR (g : Tg) : Nat → Nat → Int
  | 0, row => row
  | n + 1, row => if row.log2 < g.1 then row else if 20 < (stepT g row).log2 then -1 else tagR g n (stepT g row)
theorem log2_of {n k : Nat} (h1 : 2 ^ k ≤ n) (h2 : n < 2 ^ (k + 1)) : n.log2 = k := by
  have h0 : n ≠ 0 := fun e => by rw [e] at h1; have := Nat.two_pow_pos k; omega
  have a1 := (Nat.le_log2 h0).mpr h1
  have a2 := (Nat.log2_lt h0).mpr h2
  omega
theorem log2_sp {n : Nat} (h : 1 ≤ n) : 2 ^ n.log2 ≤ n ∧ n < 2 ^ (n.log2 + 1) := ⟨(Nat.le_log2 (by omega)).mp (Nat.le_refl _), (Nat.log2_lt (by omega)).mp (by omega)⟩
theorem log2_le {n k : Nat} (h : 1 ≤ n) (h2 : n < 2 ^ (k + 1)) : n.log2 ≤ k := by
  have := (Nat.log2_lt (by omega : n ≠ 0)).mpr h2
  omega
theorem pow_le {a b : Nat} (h : a ≤ b) : 2 ^ a ≤ 2 ^ b := Nat.pow_le_pow_right (by decide) h
theorem wordT_b {g : Tg} (hg : TgOk g) (row : Nat) : 1 ≤ wordT g row ∧ wordT g row ≤ 63 ∧ (wordT g row).log2 ≤ 5 := by
  obtain ⟨h1, h2, h3⟩ := hg
  have : 1 ≤ wordT g row ∧ wordT g row ≤ 63 := by
    unfold wordT
    split
    · exact h3
    · exact h2
  exact ⟨this.1, this.2, log2_le this.1 (by omega)⟩
theorem stepT_log {g : Tg} {row : Nat} : (stepT g row).log2 = leftT g row := by
  have h1 := Nat.mod_lt (allT g row) (Nat.two_pow_pos (leftT g row))
  unfold stepT
  refine log2_of (by omega) ?_
  rw [Nat.pow_succ]
  omega
theorem stepT_pos {g : Tg} {row : Nat} : 1 ≤ stepT g row := by
  have := Nat.two_pow_pos (leftT g row)
  unfold stepT
  omega
theorem nj_shr (a i : Nat) : (a : Int) / 2 ^ ((i : Nat) : Int).toNat = ((a / 2 ^ i : Nat) : Int) := by
  rw [Int.toNat_natCast, Int.natCast_ediv]
  congr 1
theorem nj_shl (a i : Nat) : (a : Int) * 2 ^ ((i : Nat) : Int).toNat = ((a * 2 ^ i : Nat) : Int) := by
  rw [Int.toNat_natCast, Int.natCast_mul]
  congr 1
theorem c_tgLength {w : Wd} {h : Hp} {row : Nat} (hr : 1 ≤ row ∧ row < 2 ^ 30) : Ct w yX10_length (ws_ yX10_length cX10_length 2 (some FieldType.int)) 0 0 0 0 [jI (row : Nat)] h (fun v h' => v = some (jI (row.log2 : Nat)) ∧ h' = h) NoX := by
  obtain ⟨hr1, hr2⟩ := hr
  have l30 : row.log2 ≤ 29 := log2_le hr1 hr2
  obtain ⟨s1, s2⟩ := log2_sp hr1
  refine Ct.of (by decide) [some (jI (row : Nat)), none] rfl (Nat.le_of_ble_eq_true rfl) (fun K C E N0 => ?_)
  have loop : ∀ (d i : Nat), i + d = row.log2 → Wk w K h 0 0 2 [some (jI (row : Nat)), some (jI (i : Nat))] [] := by
    intro d
    induction d with
    | zero =>
      intro i hi
      have hi' : i = row.log2 := by omega
      subst hi'
      have hq : row / 2 ^ row.log2 ≤ 1 := by
        have : row / 2 ^ row.log2 < 2 := (Nat.div_lt_iff_lt_mul (Nat.two_pow_pos _)).mpr (by rw [Nat.pow_succ] at s2; omega)
        omega
      refine k_iload_n C dX10_length_2 rfl ?_
      refine k_iload_n C dX10_length_3 rfl ?_
      refine k_ishr C dX10_length_4 (by omega) ?_
      rw [nj_shr]
      generalize row / 2 ^ row.log2 = Q at *
      refine k_iconst C dX10_length_5 ?_
      refine k_icmp_le C dX10_length_6 (tgt := 15) (by decide) (by omega) (fun g1 => ?_) (fun g2 => ?_)
      · refine k_iload_n C dX10_length_15 rfl ?_
        exact k_iret C E dX10_length_16 (by omega) ⟨rfl, rfl⟩
      · omega
    | succ d ih =>
      intro i hi
      have hq : 2 ≤ row / 2 ^ i := (Nat.le_div_iff_mul_le (Nat.two_pow_pos _)).mpr (by have := pow_le (show i + 1 ≤ row.log2 by omega); rw [Nat.pow_succ] at this; omega)
      have hq2 : row / 2 ^ i ≤ row := Nat.div_le_self _ _
      refine k_iload_n C dX10_length_2 rfl ?_
      refine k_iload_n C dX10_length_3 rfl ?_
      refine k_ishr C dX10_length_4 (by omega) ?_
      rw [nj_shr]
      generalize row / 2 ^ i = Q at *
      refine k_iconst C dX10_length_5 ?_
      refine k_icmp_le C dX10_length_6 (tgt := 15) (by decide) (by omega) (fun g1 => ?_) (fun g2 => ?_)
      · omega
      · refine k_iinc C dX10_length_9 rfl rfl ?_
        refine k_goto C dX10_length_12 (tgt := 2) (by decide) ?_
        exact ih (i + 1) (by omega)
  refine k_iconst C dX10_length_0 ?_
  refine k_istore_n C dX10_length_1 (Nat.le_of_ble_eq_true rfl) rfl ?_
  exact loop row.log2 0 (by omega)
def isTg (h : Hp) (a wa : Nat) (g : Tg) : Prop := h.2 a = some (.inl (9, [jI (g.1 : Nat), .ref wa])) ∧ ∃ f : Int → Int, h.2 wa = some (aI 0 2 f) ∧ f 0 = (g.2.1 : Nat) ∧ f 1 = (g.2.2 : Nat)
theorem isTg.ext {h h' : Hp} {a wa : Nat} {g : Tg} (E : Ext h h') (H : isTg h a wa g) : isTg h' a wa g := by
  obtain ⟨h1, f, h2, h3⟩ := H
  exact ⟨E.2 _ _ h1, f, E.2 _ _ h2, h3⟩
theorem c_tgInit {w : Wd} {h : Hp} {a : Nat} {g : Tg} (ha : h.2 a = some (.inl (9, [jI 0, .null]))) : Ct w yX10_init (ws_ yX10_init cX10_init 4 none) 1 40 1 2 [.ref a, jI (g.1 : Nat), jI (g.2.1 : Nat), jI (g.2.2 : Nat)] h (fun v h' => v = none ∧ ∃ wa, isTg h' a wa g ∧ Upd h h' [a]) NoX := by
  refine Ct.of (by decide) [some (.ref a), some (jI (g.1 : Nat)), some (jI (g.2.1 : Nat)), some (jI (g.2.2 : Nat))] rfl (Nat.le_of_ble_eq_true rfl) (fun K C E N0 => ?_)
  refine k_aload_n C dX10_init_0 rfl ?_
  refine k_objinit C rfl q918 q72 qobj dX10_init_1 ⟨(Nat.le_of_ble_eq_true rfl), (Nat.le_of_ble_eq_true rfl)⟩ ?_
  refine k_aload_n C dX10_init_4 rfl ?_
  refine k_iload_n C dX10_init_5 rfl ?_
  refine k_putF C fg_X10_7 ft_9_0 rfl (fun r hr => by cases hr; rfl) dX10_init_6 (by assumption) (Or.inl rfl) rfl rfl (fun h1 P1 => ?_)
  have a1 := P1.2.1
  refine k_aload_n C dX10_init_9 rfl ?_
  refine k_iconst C dX10_init_10 ?_
  refine k_newarr (kd := 0) (g := fun j : Nat => jI ((fun _ => 0 : Int → Int) (j : Int))) C q358 rfl rfl (fun _ => rfl) dX10_init_11 (by omega) (by decide) (by omega) (fun wa h2 N2 => ?_)
  have n2 : h2.2 wa = some (aI 0 2 (fun _ => 0)) := N2.2.1
  have a2 := N2.2.2.1.2 _ _ a1
  have awa := N2.ne a1
  refine k_dup C dX10_init_13 rfl ?_
  refine k_iconst C dX10_init_14 ?_
  refine k_iload_n C dX10_init_15 rfl ?_
  refine k_iast C dX10_init_16 (by assumption) (by omega) (fun h3 P3 => ?_)
  have n3 := P3.2.1
  refine k_dup C dX10_init_17 rfl ?_
  refine k_iconst C dX10_init_18 ?_
  refine k_iload_n C dX10_init_19 rfl ?_
  refine k_iast C dX10_init_20 (by assumption) (by omega) (fun h4 P4 => ?_)
  have a4 := P4.2.2 _ _ (P3.2.2 _ _ a2 awa) awa
  refine k_putF C fg_X10_13 ft_9_1 rfl (fun r hr => by cases hr; rfl) dX10_init_21 (by assumption) (Or.inl rfl) rfl rfl (fun h5 P5 => ?_)
  have n5 := P5.2.2 _ _ P4.2.1 (Ne.symm awa)
  have U2 : Upd h h2 [a] := P1.upd.trans (N2.2.2.1.upd [a]) (fun x hx => Or.inl hx)
  have w0 : h.2 wa = none := P1.upd.none N2.1 (by simpa using Ne.symm awa)
  have U4 : Upd h h4 [a] := (U2.trans P3.upd (fun x hx => Or.inr (by rw [show x = wa by simpa using hx]; exact w0))).trans P4.upd (fun x hx => Or.inr (by rw [show x = wa by simpa using hx]; exact w0))
  exact k_vret C E dX10_init_24 (by omega) ⟨rfl, wa, ⟨P5.2.1, _, n5, by rw [up_ne (by decide), up_at], up_at⟩, U4.trans P5.upd (fun x hx => Or.inl hx)⟩
theorem c_canGo {w : Wd} {h : Hp} {a wa row : Nat} {g : Tg} (H : isTg h a wa g) (hg : TgOk g) (hr : 1 ≤ row ∧ row < 2 ^ 30) : Ct w yX10_canGo (ws_ yX10_canGo cX10_canGo 2 (some FieldType.boolean)) 1 21 0 0 [.ref a, jI (row : Nat)] h (fun v h' => v = some (jI (b2i (decide (g.1 ≤ row.log2)))) ∧ h' = h) NoX := by
  have H1 := H.1
  have hg1 := hg.1
  have l30 : row.log2 ≤ 29 := log2_le hr.1 hr.2
  refine Ct.of (by decide) [some (.ref a), some (jI (row : Nat))] rfl (Nat.le_of_ble_eq_true rfl) (fun K C E N0 => ?_)
  refine k_iload_n C dX10_canGo_0 rfl ?_
  refine kx_S C rfl ms_X10_17 dX10_canGo_1 ((c_tgLength hr)) rfl rfl (Nat.le_of_ble_eq_true rfl) ⟨(Nat.le_of_ble_eq_true rfl), (Nat.le_of_ble_eq_true rfl)⟩ (by omega) (fun v kk hp_ => ?_) (fun _ _ hx => hx.elim)
  obtain ⟨rfl, rfl⟩ := hp_
  refine k_aload_n C dX10_canGo_4 rfl ?_
  refine k_get C fg_X10_7 dX10_canGo_5 (by assumption) (by rfl) ?_
  refine k_icmp_lt C dX10_canGo_8 (tgt := 15) (by decide) (by omega) (fun g1 => ?_) (fun g2 => ?_)
  · refine k_iconst C dX10_canGo_15 ?_
    exact k_zret (b := false) C E dX10_canGo_16 (by omega) ⟨by rw [decide_eq_false (by omega)], rfl⟩
  · refine k_iconst C dX10_canGo_11 ?_
    refine k_goto C dX10_canGo_12 (tgt := 16) (by decide) ?_
    exact k_zret (b := true) C E dX10_canGo_16 (by omega) ⟨by rw [decide_eq_true (by omega)], rfl⟩
theorem or_low {a i b : Nat} (h : b < 2 ^ i) : (a * 2 ^ i ||| b) = a * 2 ^ i + b := by
  rw [Nat.mul_comm, Nat.two_pow_add_eq_or_of_lt h]
theorem stepT_b {g : Tg} {row : Nat} (hg : TgOk g) (hr : 1 ≤ row ∧ row < 2 ^ 21) : row * 2 ^ (wordT g row).log2 < 2 ^ 26 ∧ allT g row < 2 ^ 27 ∧ leftT g row ≤ 24 ∧ stepT g row < 2 ^ 25 := by
  obtain ⟨w1, w2, w3⟩ := wordT_b hg row
  have l20 : row.log2 ≤ 20 := log2_le hr.1 hr.2
  have hg1 := hg.1
  have p1 : row * 2 ^ (wordT g row).log2 ≤ (2 ^ 21 - 1) * 2 ^ 5 := Nat.mul_le_mul (by omega) (pow_le w3)
  have a1 : row * 2 ^ (wordT g row).log2 < 2 ^ 26 := by omega
  have a2 : leftT g row ≤ 24 := by unfold leftT; omega
  have a3 := stepT_log (g := g) (row := row)
  have a4 := log2_sp (stepT_pos (g := g) (row := row))
  have a5 := pow_le (show leftT g row + 1 ≤ 25 by omega)
  rw [a3] at a4
  have a6 : wordT g row - 2 ^ (wordT g row).log2 ≤ wordT g row := Nat.sub_le _ _
  refine ⟨a1, by unfold allT; omega, a2, by omega⟩
theorem c_tgGo {w : Wd} {h : Hp} {a wa row : Nat} {g : Tg} (H : isTg h a wa g) (hg : TgOk g) (hr : 1 ≤ row ∧ row < 2 ^ 21) (hcut : g.1 ≤ row.log2) : Ct w yX10_go (ws_ yX10_go cX10_go 7 (some FieldType.int)) 1 21 0 0 [.ref a, jI (row : Nat)] h (fun v h' => v = some (jI (stepT g row : Nat)) ∧ h' = h) NoX := by
  obtain ⟨H1, f, H2, f0, f1⟩ := id H
  have hg1 := hg.1
  obtain ⟨w1, w2, w3⟩ := wordT_b hg row
  obtain ⟨b1, b2, b3, b4⟩ := stepT_b hg hr
  have l20 : row.log2 ≤ 20 := log2_le hr.1 hr.2
  have hq : row / 2 ^ (row.log2 - 1) ≤ row := Nat.div_le_self _ _
  have hsp := log2_sp w1
  have hbit : f ((row / 2 ^ (row.log2 - 1) % 2 : Nat) : Int) = ((wordT g row : Nat) : Int) := by
    unfold wordT
    split
    · rename_i e; rw [e]; exact f1
    · rename_i e; rw [show row / 2 ^ (row.log2 - 1) % 2 = 0 by omega]; exact f0
  refine Ct.of (by decide) [some (.ref a), some (jI (row : Nat)), none, none, none, none, none] rfl (Nat.le_of_ble_eq_true rfl) (fun K C E N0 => ?_)
  refine k_iload_n C dX10_go_0 rfl ?_
  refine kx_S C rfl ms_X10_17 dX10_go_1 ((c_tgLength ⟨hr.1, by omega⟩)) rfl rfl (Nat.le_of_ble_eq_true rfl) ⟨(Nat.le_of_ble_eq_true rfl), (Nat.le_of_ble_eq_true rfl)⟩ (by omega) (fun v kk hp_ => ?_) (fun _ _ hx => hx.elim)
  obtain ⟨rfl, rfl⟩ := hp_
  refine k_istore_n C dX10_go_4 (Nat.le_of_ble_eq_true rfl) rfl ?_
  refine k_aload_n C dX10_go_5 rfl ?_
  refine k_get C fg_X10_13 dX10_go_6 (by assumption) (by rfl) ?_
  refine k_iload_n C dX10_go_9 rfl ?_
  refine k_iload_n C dX10_go_10 rfl ?_
  refine k_iconst C dX10_go_11 ?_
  refine k_isub C dX10_go_12 ?_
  refine k_ishr C dX10_go_13 (by omega) ?_
  rw [show ((row.log2 : Nat) : Int) - 1 = ((row.log2 - 1 : Nat) : Int) by omega, nj_shr]
  generalize row / 2 ^ (row.log2 - 1) = Q at *
  refine k_iconst C dX10_go_14 ?_
  refine k_iand C dX10_go_15 (by omega) ?_
  rw [Int.toNat_natCast, show (1 : Int).toNat = 1 from rfl, Nat.and_one_is_mod]
  refine k_iald C dX10_go_16 (by assumption) (by rfl) (by omega) ?_
  rw [hbit]
  refine k_istore_n C dX10_go_17 (Nat.le_of_ble_eq_true rfl) rfl ?_
  refine k_iload_n C dX10_go_18 rfl ?_
  refine kx_S C rfl ms_X10_17 dX10_go_19 ((c_tgLength ⟨w1, by omega⟩)) rfl rfl (Nat.le_of_ble_eq_true rfl) ⟨(Nat.le_of_ble_eq_true rfl), (Nat.le_of_ble_eq_true rfl)⟩ (by omega) (fun v kk hp_ => ?_) (fun _ _ hx => hx.elim)
  obtain ⟨rfl, rfl⟩ := hp_
  refine k_istore C dX10_go_22 (Nat.le_of_ble_eq_true rfl) rfl ?_
  refine k_iload_n C dX10_go_24 rfl ?_
  refine k_iload C dX10_go_25 rfl ?_
  refine k_ishl C dX10_go_27 (by omega) ?_
  rw [nj_shl]
  refine k_iload_n C dX10_go_28 rfl ?_
  refine k_iconst C dX10_go_29 ?_
  refine k_iload C dX10_go_30 rfl ?_
  refine k_ishl C dX10_go_32 (by omega) ?_
  rw [show (1 : Int) * 2 ^ (((wordT g row).log2 : Nat) : Int).toNat = ((2 ^ (wordT g row).log2 : Nat) : Int) by have := nj_shl 1 (wordT g row).log2; rw [Nat.one_mul] at this; exact this]
  refine k_isub C dX10_go_33 ?_
  rw [show ((wordT g row : Nat) : Int) - ((2 ^ (wordT g row).log2 : Nat) : Int) = ((wordT g row - 2 ^ (wordT g row).log2 : Nat) : Int) by omega]
  refine k_ior C dX10_go_34 (by omega) ?_
  rw [Int.toNat_natCast, Int.toNat_natCast, or_low (by rw [Nat.pow_succ] at hsp; omega), show row * 2 ^ (wordT g row).log2 + (wordT g row - 2 ^ (wordT g row).log2) = allT g row from rfl]
  refine k_istore C dX10_go_35 (Nat.le_of_ble_eq_true rfl) rfl ?_
  refine k_iload_n C dX10_go_37 rfl ?_
  refine k_iload C dX10_go_38 rfl ?_
  refine k_iadd C dX10_go_40 ?_
  refine k_aload_n C dX10_go_41 rfl ?_
  refine k_get C fg_X10_7 dX10_go_42 (by assumption) (by rfl) ?_
  refine k_isub C dX10_go_45 ?_
  rw [show ((row.log2 : Nat) : Int) + (((wordT g row).log2 : Nat) : Int) - ((g.1 : Nat) : Int) = ((leftT g row : Nat) : Int) by unfold leftT; omega]
  refine k_istore C dX10_go_46 (Nat.le_of_ble_eq_true rfl) rfl ?_
  refine k_iload C dX10_go_48 rfl ?_
  refine k_iconst C dX10_go_50 ?_
  refine k_iload C dX10_go_51 rfl ?_
  refine k_ishl C dX10_go_53 (by omega) ?_
  have e2 : (1 : Int) * 2 ^ ((leftT g row : Nat) : Int).toNat = ((2 ^ leftT g row : Nat) : Int) := by have := nj_shl 1 (leftT g row); rw [Nat.one_mul] at this; exact this
  have e3 := Nat.two_pow_pos (leftT g row)
  have e4 := pow_le b3
  rw [e2]
  refine k_iconst C dX10_go_54 ?_
  refine k_isub C dX10_go_55 ?_
  rw [show ((2 ^ leftT g row : Nat) : Int) - 1 = ((2 ^ leftT g row - 1 : Nat) : Int) by omega]
  refine k_iand C dX10_go_56 (by omega) ?_
  rw [Int.toNat_natCast, Int.toNat_natCast, Nat.and_two_pow_sub_one_eq_mod]
  refine k_iconst C dX10_go_57 ?_
  refine k_iload C dX10_go_58 rfl ?_
  refine k_ishl C dX10_go_60 (by omega) ?_
  rw [e2]
  have e5 := Nat.mod_lt (allT g row) e3
  refine k_ior C dX10_go_61 (by omega) ?_
  rw [Int.toNat_natCast, Int.toNat_natCast, Nat.or_comm]
  rw [show (2 ^ leftT g row ||| allT g row % 2 ^ leftT g row) = stepT g row by have := or_low (a := 1) e5; rw [Nat.one_mul] at this; rw [this]; unfold stepT; omega]
  exact k_iret C E dX10_go_62 (by omega) ⟨rfl, rfl⟩
theorem c_taggedNow {w : Wd} {h : Hp} {a wa row m : Nat} {g : Tg} (H : isTg h a wa g) (hg : TgOk g) (hr : 1 ≤ row ∧ row < 2 ^ 21) (hm : m ≤ 1000) : Ct w yX1_taggedNow (ws_ yX1_taggedNow cX1_taggedNow 5 (some FieldType.int)) 2 47 0 0 [.ref a, jI (row : Nat), jI (m : Nat)] h (fun v h' => v = some (jI (tagR g m row)) ∧ h' = h) NoX := by
  have H1 := H.1
  refine Ct.of (by decide) [some (.ref a), some (jI (row : Nat)), some (jI (m : Nat)), none, none] rfl (Nat.le_of_ble_eq_true rfl) (fun K C E N0 => ?_)
  generalize hfin : tagR g m row = fin at *
  have loop : ∀ (d i r : Nat), i + d = m → (1 ≤ r ∧ r < 2 ^ 21) → tagR g d r = fin → Wk w K h 0 0 5 [some (.ref a), some (jI (row : Nat)), some (jI (m : Nat)), some (jI (r : Nat)), some (jI (i : Nat))] [] := by
    intro d
    induction d with
    | zero =>
      intro i r hi hr hres
      refine k_iload C dX1_taggedNow_5 rfl ?_
      refine k_iload_n C dX1_taggedNow_7 rfl ?_
      refine k_icmp_ge C dX1_taggedNow_8 (tgt := 42) (by decide) (by omega) (fun g1 => ?_) (fun g2 => ?_)
      · refine k_iload_n C dX1_taggedNow_42 rfl ?_
        rw [show ((r : Nat) : Int) = fin from hres]
        exact k_iret C E dX1_taggedNow_43 (by omega) ⟨rfl, rfl⟩
      · omega
    | succ d ih =>
      intro i r hi hr hres
      have l20 : r.log2 ≤ 20 := log2_le hr.1 hr.2
      unfold tagR at hres
      refine k_iload C dX1_taggedNow_5 rfl ?_
      refine k_iload_n C dX1_taggedNow_7 rfl ?_
      refine k_icmp_ge C dX1_taggedNow_8 (tgt := 42) (by decide) (by omega) (fun g1 => ?_) (fun g2 => ?_)
      · omega
      · refine k_aload_n C dX1_taggedNow_11 rfl ?_
        refine k_iload_n C dX1_taggedNow_12 rfl ?_
        refine kx_V C rfl mv_X1_385 dX1_taggedNow_13 ((c_canGo H hg ⟨hr.1, by omega⟩)) (by assumption) rfl rfl (Nat.le_of_ble_eq_true rfl) ⟨(Nat.le_of_ble_eq_true rfl), (Nat.le_of_ble_eq_true rfl)⟩ (by omega) (fun v kk hp_ => ?_) (fun _ _ hx => hx.elim)
        obtain ⟨rfl, rfl⟩ := hp_
        refine k_ifeq_b C dX1_taggedNow_16 (tgt := 42) (by decide) (fun g3 => ?_) (fun g4 => ?_)
        · rw [if_pos (by have := of_decide_eq_false g3; omega)] at hres
          refine k_iload_n C dX1_taggedNow_42 rfl ?_
          rw [hres]
          exact k_iret C E dX1_taggedNow_43 (by omega) ⟨rfl, rfl⟩
        · have g4' := of_decide_eq_true g4
          rw [if_neg (by omega)] at hres
          obtain ⟨b1, b2, b3, b4⟩ := stepT_b hg hr
          have hp := stepT_pos (g := g) (row := r)
          have hl := stepT_log (g := g) (row := r)
          refine k_aload_n C dX1_taggedNow_19 rfl ?_
          refine k_iload_n C dX1_taggedNow_20 rfl ?_
          refine kx_V C rfl mv_X1_389 dX1_taggedNow_21 ((c_tgGo H hg hr g4')) (by assumption) rfl rfl (Nat.le_of_ble_eq_true rfl) ⟨(Nat.le_of_ble_eq_true rfl), (Nat.le_of_ble_eq_true rfl)⟩ (by omega) (fun v kk hp_ => ?_) (fun _ _ hx => hx.elim)
          obtain ⟨rfl, rfl⟩ := hp_
          refine k_istore_n C dX1_taggedNow_24 (Nat.le_of_ble_eq_true rfl) rfl ?_
          refine k_iload_n C dX1_taggedNow_25 rfl ?_
          refine kx_S C rfl ms_X1_392 dX1_taggedNow_26 ((c_tgLength ⟨hp, by omega⟩)) rfl rfl (Nat.le_of_ble_eq_true rfl) ⟨(Nat.le_of_ble_eq_true rfl), (Nat.le_of_ble_eq_true rfl)⟩ (by omega) (fun v kk hp_ => ?_) (fun _ _ hx => hx.elim)
          obtain ⟨rfl, rfl⟩ := hp_
          refine k_bipush C dX1_taggedNow_29 (by decide) ?_
          refine k_icmp_le C dX1_taggedNow_31 (tgt := 36) (by decide) (by omega) (fun g5 => ?_) (fun g6 => ?_)
          · rw [if_neg (by omega)] at hres
            refine k_iinc C dX1_taggedNow_36 rfl rfl ?_
            refine k_goto C dX1_taggedNow_39 (tgt := 5) (by decide) ?_
            have h21 : stepT g r < 2 ^ 21 := by
              have s2 := (log2_sp hp).2
              have := pow_le (show (stepT g r).log2 + 1 ≤ 21 by omega)
              omega
            exact ih (i + 1) (stepT g r) (by omega) ⟨hp, h21⟩ hres
          · rw [if_pos (by omega)] at hres
            refine k_iconst C dX1_taggedNow_34 ?_
            rw [hres]
            exact k_iret C E dX1_taggedNow_35 (by omega) ⟨rfl, rfl⟩
  refine k_iload_n C dX1_taggedNow_0 rfl ?_
  refine k_istore_n C dX1_taggedNow_1 (Nat.le_of_ble_eq_true rfl) rfl ?_
  refine k_iconst C dX1_taggedNow_2 ?_
  refine k_istore C dX1_taggedNow_3 (Nat.le_of_ble_eq_true rfl) rfl ?_
  exact loop m 0 row (by omega) hr hfin
