/-! ===== what arguments must be; rules and tables ===== -/
set_option maxRecDepth 100000
abbrev sIAE : String := "java/lang/IllegalArgumentException"
abbrev sISE : String := "java/lang/IllegalStateException"
abbrev sIOB : String := "java/lang/IndexOutOfBoundsException"
/-- an exception of the callee's goes on -/
theorem x_pass {w : Wd} {K : KT} {own nm : String} {cc : ByteArray} {nL : Nat} {ret : Option FieldType} {fr lo mc ms : Nat} {h : Hp} {n k pc : Nat} {L : List (Option Value)} {st : List Value} {Post : Option Value → Hp → Prop} {PostX : String → Hp → Prop} {E0 : String} (C : Cx w K own cc nL ret nm fr lo mc ms) (E : En w K Post PostX mc ms) (N0 : ∀ x ∈ K.c.exceptionTable.toList, False) (hm : n ≤ mc ∧ k ≤ ms) (hp : PostX E0 h) : Wx w K h n k pc L st E0 := x_out C E (fun x hx => (N0 x hx).elim) hm hp
theorem c_must {w : Wd} {h : Hp} {b : Bool} : Ct w yX1_must (ws_ yX1_must cX1_must 1 none) 8 200 1 6 [jI (b2i b)] h (fun v h' => b = true ∧ v = none ∧ h' = h) (fun E h' => b = false ∧ E = sIAE ∧ Ext h h') := by
  refine Ct.of (by decide) [some (jI (b2i b))] rfl (Nat.le_of_ble_eq_true rfl) (fun K C E N0 => ?_)
  refine k_iload_n C dX1_must_0 rfl ?_
  refine k_ifne_b C dX1_must_1 (tgt := 12) (by decide) (fun h1 => ?_) (fun h2 => ?_)
  · exact k_vret C E dX1_must_12 (by omega) ⟨h1, rfl, rfl⟩
  · exact thr_IAE C E N0 rfl dX1_must_4 dX1_must_7 dX1_must_8 dX1_must_11 (by decide) (by omega) (fun h' hE => ⟨h2, rfl, hE⟩)
theorem c_checkState {w : Wd} {h : Hp} {b : Bool} : Ct w yX1_checkState (ws_ yX1_checkState cX1_checkState 1 none) 8 200 1 6 [jI (b2i b)] h (fun v h' => b = true ∧ v = none ∧ h' = h) (fun E h' => b = false ∧ E = sISE ∧ Ext h h') := by
  refine Ct.of (by decide) [some (jI (b2i b))] rfl (Nat.le_of_ble_eq_true rfl) (fun K C E N0 => ?_)
  refine k_iload_n C dX1_checkState_0 rfl ?_
  refine k_ifne_b C dX1_checkState_1 (tgt := 12) (by decide) (fun h1 => ?_) (fun h2 => ?_)
  · exact k_vret C E dX1_checkState_12 (by omega) ⟨h1, rfl, rfl⟩
  · exact thr_ISE C E N0 rfl dX1_checkState_4 dX1_checkState_7 dX1_checkState_8 dX1_checkState_11 (by decide) (by omega) (fun h' hE => ⟨h2, rfl, hE⟩)
theorem c_checkPlace {w : Wd} {h : Hp} {p c : Int} (hr : -2147483648 ≤ p ∧ p < 2147483648 ∧ 0 ≤ c ∧ c < 2147483648) : Ct w yX1_checkPlace (ws_ yX1_checkPlace cX1_checkPlace 2 none) 8 200 1 6 [jI p, jI c] h (fun v h' => (0 ≤ p ∧ p < c) ∧ v = none ∧ h' = h) (fun E h' => ¬ (0 ≤ p ∧ p < c) ∧ E = sIOB ∧ Ext h h') := by
  refine Ct.of (by decide) [some (jI p), some (jI c)] rfl (Nat.le_of_ble_eq_true rfl) (fun K C E N0 => ?_)
  refine k_iload_n C dX1_checkPlace_0 rfl ?_
  refine k_if_lt C dX1_checkPlace_1 (tgt := 9) (by decide) (by omega) (fun h1 => ?_) (fun h2 => ?_)
  · exact thr_IOB C E N0 rfl dX1_checkPlace_9 dX1_checkPlace_12 dX1_checkPlace_13 dX1_checkPlace_16 (by decide) (by omega) (fun h' hE => ⟨by omega, rfl, hE⟩)
  · refine k_iload_n C dX1_checkPlace_4 rfl ?_
    refine k_iload_n C dX1_checkPlace_5 rfl ?_
    refine k_icmp_lt C dX1_checkPlace_6 (tgt := 17) (by decide) (by omega) (fun h3 => ?_) (fun h4 => ?_)
    · exact k_vret C E dX1_checkPlace_17 (by omega) ⟨by omega, rfl, rfl⟩
    · exact thr_IOB C E N0 rfl dX1_checkPlace_9 dX1_checkPlace_12 dX1_checkPlace_13 dX1_checkPlace_16 (by decide) (by omega) (fun h' hE => ⟨by omega, rfl, hE⟩)
theorem c_mustBeIn {w : Wd} {h : Hp} {v a b : Int} (hr : -2147483648 ≤ v ∧ v < 2147483648 ∧ -2147483648 ≤ a ∧ a < 2147483648 ∧ -2147483648 ≤ b ∧ b < 2147483648) : Ct w yX1_mustBeIn (ws_ yX1_mustBeIn cX1_mustBeIn 3 none) 9 220 1 6 [jI v, jI a, jI b] h (fun r h' => (a ≤ v ∧ v ≤ b) ∧ r = none ∧ h' = h) (fun E h' => ¬ (a ≤ v ∧ v ≤ b) ∧ E = sIAE ∧ Ext h h') := by
  refine Ct.of (by decide) [some (jI v), some (jI a), some (jI b)] rfl (Nat.le_of_ble_eq_true rfl) (fun K C E N0 => ?_)
  refine k_iload_n C dX1_mustBeIn_0 rfl ?_
  refine k_iload_n C dX1_mustBeIn_1 rfl ?_
  refine k_icmp_lt C dX1_mustBeIn_2 (tgt := 14) (by decide) (by omega) (fun h1 => ?_) (fun h2 => ?_)
  · refine k_iconst C dX1_mustBeIn_14 ?_
    refine kx_S C rfl ms_X1_147 dX1_mustBeIn_15 ((c_must (b := false))) rfl rfl (Nat.le_of_ble_eq_true rfl) ⟨(Nat.le_of_ble_eq_true rfl), (Nat.le_of_ble_eq_true rfl)⟩ (by omega) (fun v h1 hp_ => ?_) (fun E1 h1 hx => x_pass C E N0 (by omega) ⟨by omega, hx.2⟩)
    obtain ⟨e, _, _⟩ := hp_
    cases e
  · refine k_iload_n C dX1_mustBeIn_5 rfl ?_
    refine k_iload_n C dX1_mustBeIn_6 rfl ?_
    refine k_icmp_gt C dX1_mustBeIn_7 (tgt := 14) (by decide) (by omega) (fun h3 => ?_) (fun h4 => ?_)
    · refine k_iconst C dX1_mustBeIn_14 ?_
      refine kx_S C rfl ms_X1_147 dX1_mustBeIn_15 ((c_must (b := false))) rfl rfl (Nat.le_of_ble_eq_true rfl) ⟨(Nat.le_of_ble_eq_true rfl), (Nat.le_of_ble_eq_true rfl)⟩ (by omega) (fun v h1 hp_ => ?_) (fun E1 h1 hx => x_pass C E N0 (by omega) ⟨by omega, hx.2⟩)
      obtain ⟨e, _, _⟩ := hp_
      cases e
    · refine k_iconst C dX1_mustBeIn_10 ?_
      refine k_goto C dX1_mustBeIn_11 (tgt := 15) (by decide) ?_
      refine kx_S C rfl ms_X1_147 dX1_mustBeIn_15 ((c_must (b := true))) rfl rfl (Nat.le_of_ble_eq_true rfl) ⟨(Nat.le_of_ble_eq_true rfl), (Nat.le_of_ble_eq_true rfl)⟩ (by omega) (fun v h1 hp_ => ?_) (fun E1 h1 hx => absurd hx.1 (by decide))
      obtain ⟨_, rfl, rfl⟩ := hp_
      exact k_vret C E dX1_mustBeIn_18 (by omega) ⟨by omega, rfl, rfl⟩
/-! ### rules -/
/-- what is written, moved, next -/
abbrev Ru : Type := Int × Int × Int
/-- a table: how many states; its cells -/
abbrev Tb : Type := Nat × (Int → Option Ru)
def RuOk (S : Nat) (r : Ru) : Prop := (r.1 = 0 ∨ r.1 = 1) ∧ (r.2.1 = 1 ∨ r.2.1 = -1) ∧ 0 ≤ r.2.2 ∧ r.2.2 ≤ S
def TbOk (T : Tb) : Prop := 2 ≤ T.1 ∧ T.1 ≤ 4 ∧ ∀ (k : Int) (r : Ru), 0 ≤ k → k < 2 * T.1 → T.2 k = some r → RuOk T.1 r
def isRu (h : Hp) (a : Nat) (r : Ru) : Prop := h.2 a = some (.inl (6, [jI r.1, jI r.2.1, jI r.2.2]))
def isOR (h : Hp) (o : Nat) (r : Option Ru) : Prop := match r with
  | none => isOp h o none
  | some r => ∃ a, isOp h o (some a) ∧ isRu h a r
theorem isOR.ext {h h' : Hp} {o : Nat} {r : Option Ru} (E : Ext h h') (H : isOR h o r) : isOR h' o r := by
  cases r with
  | none => exact E.2 _ _ H
  | some r =>
    obtain ⟨a, h1, h2⟩ := H
    exact ⟨a, E.2 _ _ h1, E.2 _ _ h2⟩
theorem isOR.cell {h : Hp} {o : Nat} {r : Option Ru} (H : isOR h o r) : ∃ v, h.2 o = some (.inl (15, [v])) := by
  cases r with
  | none => exact ⟨_, H⟩
  | some r =>
    obtain ⟨a, h1, -⟩ := H
    exact ⟨_, h1⟩
theorem c_orPresent {w : Wd} {h : Hp} {o : Nat} {r : Option Ru} (H : isOR h o r) : Ct w yJ8_isPresent (ws_ yJ8_isPresent cJ8_isPresent 1 (some FieldType.boolean)) 0 0 0 0 [.ref o] h (fun v h' => v = some (jI (b2i r.isSome)) ∧ h' = h) NoX := by
  cases r with
  | none => exact c_isPresent H
  | some r =>
    obtain ⟨a, h1, -⟩ := H
    exact c_isPresent h1
theorem c_orGet {w : Wd} {h : Hp} {o : Nat} {r : Ru} (H : isOR h o (some r)) : Ct w yJ8_get (ws_ yJ8_get cJ8_get 1 (some (FieldType.object "java/lang/Object"))) 0 0 0 0 [.ref o] h (fun v h' => ∃ a, v = some (.ref a) ∧ isRu h a r ∧ h' = h) NoX := by
  obtain ⟨a, h1, h2⟩ := H
  exact (c_opGet h1).mono (fun v h' e => ⟨a, e.1, h2, e.2⟩) (fun E h' x => x)
theorem c_ruInit {w : Wd} {h : Hp} {o : Nat} {a b c : Int} (ho : h.2 o = some (.inl (6, [jI 0, jI 0, jI 0]))) : Ct w yX7_init (ws_ yX7_init cX7_init 4 none) 1 40 0 0 [.ref o, jI a, jI b, jI c] h (fun v h' => v = none ∧ Put h h' o (.inl (6, [jI a, jI b, jI c]))) NoX := by
  refine Ct.of (by decide) [some (.ref o), some (jI a), some (jI b), some (jI c)] rfl (Nat.le_of_ble_eq_true rfl) (fun K C E N0 => ?_)
  refine k_aload_n C dX7_init_0 rfl ?_
  refine k_objinit C rfl q809 q72 qobj dX7_init_1 ⟨(Nat.le_of_ble_eq_true rfl), (Nat.le_of_ble_eq_true rfl)⟩ ?_
  refine k_aload_n C dX7_init_4 rfl ?_
  refine k_iload_n C dX7_init_5 rfl ?_
  refine k_putF C fg_X7_7 ft_6_0 rfl (fun r hr => by cases hr; rfl) dX7_init_6 (by assumption) (Or.inl rfl) rfl rfl (fun h1 P1 => ?_)
  have ho1 := P1.2.1
  refine k_aload_n C dX7_init_9 rfl ?_
  refine k_iload_n C dX7_init_10 rfl ?_
  refine k_putF C fg_X7_13 ft_6_1 rfl (fun r hr => by cases hr; rfl) dX7_init_11 (by assumption) (Or.inl rfl) rfl rfl (fun h2 P2 => ?_)
  have ho2 := P2.2.1
  refine k_aload_n C dX7_init_14 rfl ?_
  refine k_iload_n C dX7_init_15 rfl ?_
  refine k_putF C fg_X7_16 ft_6_2 rfl (fun r hr => by cases hr; rfl) dX7_init_16 (by assumption) (Or.inl rfl) rfl rfl (fun h3 P3 => ?_)
  exact k_vret C E dX7_init_19 (by omega) ⟨rfl, (P1.trans P2).trans P3⟩
theorem c_turned {w : Wd} {h : Hp} {o : Nat} {r : Ru} (ho : isRu h o r) : Ct w yX7_turned (ws_ yX7_turned cX7_turned 1 (some (FieldType.object "Haltingale$Rule"))) 2 63 1 3 [.ref o] h (fun v h' => ∃ q, v = some (.ref q) ∧ isRu h' q (r.1, -r.2.1, r.2.2) ∧ Ext h h') NoX := by
  unfold isRu at ho
  refine Ct.of (by decide) [some (.ref o)] rfl (Nat.le_of_ble_eq_true rfl) (fun K C E N0 => ?_)
  refine k_new C nw_X7_8 dX7_turned_0 (by omega) (fun q h1 N1 => ?_)
  have ho1 := N1.2.2.1.2 _ _ ho
  have hq1 := N1.2.1
  refine k_dup C dX7_turned_3 rfl ?_
  refine k_aload_n C dX7_turned_4 rfl ?_
  refine k_get C fg_X7_7 dX7_turned_5 (by assumption) (by rfl) ?_
  refine k_aload_n C dX7_turned_8 rfl ?_
  refine k_get C fg_X7_13 dX7_turned_9 (by assumption) (by rfl) ?_
  refine k_ineg C dX7_turned_12 ?_
  refine k_aload_n C dX7_turned_13 rfl ?_
  refine k_get C fg_X7_16 dX7_turned_14 (by assumption) (by rfl) ?_
  refine kx_I C rfl mi_X7_19 dX7_turned_17 ((c_ruInit hq1)) rfl rfl (Nat.le_of_ble_eq_true rfl) ⟨(Nat.le_of_ble_eq_true rfl), (Nat.le_of_ble_eq_true rfl)⟩ (by omega) (fun v h2 hp_ => ?_) (fun _ _ hx => hx.elim)
  obtain ⟨rfl, P⟩ := hp_
  exact k_aret C (Or.inl ⟨_, rfl⟩) E dX7_turned_20 (by omega) ⟨q, rfl, P.2.1, (N1.put P).2.2.1⟩
/-- small numbers -/
def RuB (r : Ru) : Prop := -1000 ≤ r.1 ∧ r.1 ≤ 1000 ∧ -1000 ≤ r.2.1 ∧ r.2.1 ≤ 1000 ∧ -1000 ≤ r.2.2 ∧ r.2.2 ≤ 1000
theorem c_ruIsAs {w : Wd} {h : Hp} {o p : Nat} {r s : Ru} (hr : RuB r) (hs : RuB s) (ho : isRu h o r) (hp : isRu h p s) : Ct w yX7_isAs (ws_ yX7_isAs cX7_isAs 2 (some FieldType.boolean)) 0 0 0 0 [.ref o, .ref p] h (fun v h' => v = some (jI (b2i (decide (r = s)))) ∧ h' = h) NoX := by
  obtain ⟨a1, a2, a3⟩ := r
  obtain ⟨b1, b2, b3⟩ := s
  unfold RuB at hr hs
  unfold isRu at ho hp
  dsimp only at hr hs ho hp
  refine Ct.of (by decide) [some (.ref o), some (.ref p)] rfl (Nat.le_of_ble_eq_true rfl) (fun K C E N0 => ?_)
  refine k_aload_n C dX7_isAs_0 rfl ?_
  refine k_get C fg_X7_7 dX7_isAs_1 (by assumption) (by rfl) ?_
  refine k_aload_n C dX7_isAs_4 rfl ?_
  refine k_get C fg_X7_7 dX7_isAs_5 (by assumption) (by rfl) ?_
  refine k_icmp_ne C dX7_isAs_8 (tgt := 37) (by decide) (by omega) (fun h1 => ?_) (fun h2 => ?_)
  · refine k_iconst C dX7_isAs_37 ?_
    exact k_zret (b := false) C E dX7_isAs_38 (by omega) ⟨by rw [decide_eq_false (fun e => h1 (by cases e; rfl))], rfl⟩
  · refine k_aload_n C dX7_isAs_11 rfl ?_
    refine k_get C fg_X7_13 dX7_isAs_12 (by assumption) (by rfl) ?_
    refine k_aload_n C dX7_isAs_15 rfl ?_
    refine k_get C fg_X7_13 dX7_isAs_16 (by assumption) (by rfl) ?_
    refine k_icmp_ne C dX7_isAs_19 (tgt := 37) (by decide) (by omega) (fun h3 => ?_) (fun h4 => ?_)
    · refine k_iconst C dX7_isAs_37 ?_
      exact k_zret (b := false) C E dX7_isAs_38 (by omega) ⟨by rw [decide_eq_false (fun e => h3 (by cases e; rfl))], rfl⟩
    · refine k_aload_n C dX7_isAs_22 rfl ?_
      refine k_get C fg_X7_16 dX7_isAs_23 (by assumption) (by rfl) ?_
      refine k_aload_n C dX7_isAs_26 rfl ?_
      refine k_get C fg_X7_16 dX7_isAs_27 (by assumption) (by rfl) ?_
      refine k_icmp_ne C dX7_isAs_30 (tgt := 37) (by decide) (by omega) (fun h5 => ?_) (fun h6 => ?_)
      · refine k_iconst C dX7_isAs_37 ?_
        exact k_zret (b := false) C E dX7_isAs_38 (by omega) ⟨by rw [decide_eq_false (fun e => h5 (by cases e; rfl))], rfl⟩
      · refine k_iconst C dX7_isAs_33 ?_
        refine k_goto C dX7_isAs_34 (tgt := 38) (by decide) ?_
        exact k_zret (b := true) C E dX7_isAs_38 (by omega) ⟨by rw [decide_eq_true (by rw [h2, h4, h6])], rfl⟩
theorem isOR.put {h h' : Hp} {o a : Nat} {r : Option Ru} {c : Cel} (H : isOR h o r) (P : Put h h' a c) (hc : ∀ x : Nat × List Value, h.2 a = some (.inl x) → x.1 ≠ 15 ∧ x.1 ≠ 6) : isOR h' o r := by
  cases r with
  | none => exact P.2.2 _ _ H (fun x => (hc _ (by rw [← x]; exact H)).1 rfl)
  | some r =>
    obtain ⟨b, h1, h2⟩ := H
    exact ⟨b, P.2.2 _ _ h1 (fun x => (hc _ (by rw [← x]; exact h1)).1 rfl), P.2.2 _ _ h2 (fun x => (hc _ (by rw [← x]; exact h2)).2 rfl)⟩
/-! ### tables -/
/-- a table at t: its list at lst, the list's array at ar -/
def isTb (w : Wd) (h : Hp) (t lst ar : Nat) (T : Tb) : Prop := h.2 t = some (.inl (4, [jI (T.1 : Nat), .ref lst])) ∧ ∃ f : Int → Option Nat, isAL w h lst ar (2 * T.1) 10 f ∧ ∀ k : Int, 0 ≤ k → k < (2 * T.1 : Nat) → ∃ o, f k = some o ∧ isOR h o (T.2 k)
theorem isTb.ext {w : Wd} {h h' : Hp} {t lst ar : Nat} {T : Tb} (E : Ext h h') (H : isTb w h t lst ar T) : isTb w h' t lst ar T := by
  obtain ⟨h1, f, h2, h3⟩ := H
  refine ⟨E.2 _ _ h1, f, h2.ext E, fun k k0 k1 => ?_⟩
  obtain ⟨o, e1, e2⟩ := h3 k k0 k1
  exact ⟨o, e1, e2.ext E⟩
theorem c_cell {w : Wd} {h : Hp} {t lst ar : Nat} {T : Tb} {s b : Int} (H : isTb w h t lst ar T) (hT : T.1 ≤ 4) (hs : 0 ≤ s ∧ s < T.1) (hb : 0 ≤ b ∧ b ≤ 1) : Ct w yX5_cell (ws_ yX5_cell cX5_cell 3 (some (FieldType.object "java/util/Optional"))) 3 64 0 0 [.ref t, jI s, jI b] h (fun v h' => ∃ o, v = some (.ref o) ∧ isOR h o (T.2 (2 * s + b)) ∧ h' = h) NoX := by
  obtain ⟨H1, f, H2, H3⟩ := H
  obtain ⟨o, e1, e2⟩ := H3 (2 * s + b) (by omega) (by omega)
  obtain ⟨vo, e3⟩ := e2.cell
  have hl := H2.1
  refine Ct.of (by decide) [some (.ref t), some (jI s), some (jI b)] rfl (Nat.le_of_ble_eq_true rfl) (fun K C E N0 => ?_)
  refine k_aload_n C dX5_cell_0 rfl ?_
  refine k_get C fg_X5_10 dX5_cell_1 (by assumption) (by rfl) ?_
  refine k_iconst C dX5_cell_4 ?_
  refine k_iload_n C dX5_cell_5 rfl ?_
  refine k_imul C dX5_cell_6 ?_
  refine k_iload_n C dX5_cell_7 rfl ?_
  refine k_iadd C dX5_cell_8 ?_
  refine kx_F C rfl mf_X5_39 dX5_cell_9 ((c_get H2 (by omega) e1)) (by assumption) rfl rfl (Nat.le_of_ble_eq_true rfl) ⟨(Nat.le_of_ble_eq_true rfl), (Nat.le_of_ble_eq_true rfl)⟩ (by omega) (fun v h1 hp_ => ?_) (fun _ _ hx => hx.elim)
  obtain ⟨rfl, rfl⟩ := hp_
  refine k_castO C ck_X5_21_15 dX5_cell_14 (by assumption) ?_
  exact k_aret C (Or.inl ⟨_, rfl⟩) E dX5_cell_17 (by omega) ⟨o, rfl, e2, rfl⟩
/-- a machine ends at a cell -/
def endsB (T : Tb) (k : Int) : Bool := match T.2 k with
  | none => true
  | some r => decide (r.2.2 = T.1)
theorem endsB_none {T : Tb} {k : Int} (h : T.2 k = none) : endsB T k = true := by unfold endsB; rw [h]
theorem endsB_some {T : Tb} {k : Int} {r : Ru} (h : T.2 k = some r) : endsB T k = decide (r.2.2 = T.1) := by unfold endsB; rw [h]
theorem c_endsAt {w : Wd} {h : Hp} {t lst ar : Nat} {T : Tb} {s b : Int} (H : isTb w h t lst ar T) (hT : TbOk T) (hs : 0 ≤ s ∧ s < T.1) (hb : 0 ≤ b ∧ b ≤ 1) : Ct w yX5_endsAt (ws_ yX5_endsAt cX5_endsAt 3 (some FieldType.boolean)) 4 86 0 0 [.ref t, jI s, jI b] h (fun v h' => v = some (jI (b2i (endsB T (2 * s + b)))) ∧ h' = h) NoX := by
  have H0 := H
  obtain ⟨H1, f, H2, H3⟩ := H
  obtain ⟨hT1, hT2, hT3⟩ := hT
  refine Ct.of (by decide) [some (.ref t), some (jI s), some (jI b)] rfl (Nat.le_of_ble_eq_true rfl) (fun K C E N0 => ?_)
  refine k_aload_n C dX5_endsAt_0 rfl ?_
  refine k_iload_n C dX5_endsAt_1 rfl ?_
  refine k_iload_n C dX5_endsAt_2 rfl ?_
  refine kx_V C rfl mv_X5_55 dX5_endsAt_3 ((c_cell H0 hT2 hs hb)) (by assumption) rfl rfl (Nat.le_of_ble_eq_true rfl) ⟨(Nat.le_of_ble_eq_true rfl), (Nat.le_of_ble_eq_true rfl)⟩ (by omega) (fun v h1 hp_ => ?_) (fun _ _ hx => hx.elim)
  obtain ⟨o, rfl, e2, rfl⟩ := hp_
  obtain ⟨vo, e3⟩ := e2.cell
  refine kx_V C rfl mv_X5_51 dX5_endsAt_6 ((c_orPresent e2)) (by assumption) rfl rfl (Nat.le_of_ble_eq_true rfl) ⟨(Nat.le_of_ble_eq_true rfl), (Nat.le_of_ble_eq_true rfl)⟩ (by omega) (fun v h1 hp_ => ?_) (fun _ _ hx => hx.elim)
  obtain ⟨rfl, rfl⟩ := hp_
  cases hc : T.2 (2 * s + b) with
  | none =>
    rw [hc] at e2
    refine k_ifeq_b C dX5_endsAt_9 (tgt := 34) (by decide) (fun h1 => ?_) (fun h2 => ?_)
    · refine k_iconst C dX5_endsAt_34 ?_
      refine k_goto C dX5_endsAt_35 (tgt := 39) (by decide) ?_
      exact k_zret (b := true) C E dX5_endsAt_39 (by omega) ⟨by rw [endsB_none hc], rfl⟩
    · cases h2
  | some r =>
    rw [hc] at e2
    have hr := hT3 _ r (by omega) (by omega) hc
    obtain ⟨hr1, hr2, hr3, hr4⟩ := hr
    refine k_ifeq_b C dX5_endsAt_9 (tgt := 34) (by decide) (fun h1 => ?_) (fun h2 => ?_)
    · cases h1
    · refine k_aload_n C dX5_endsAt_12 rfl ?_
      refine k_iload_n C dX5_endsAt_13 rfl ?_
      refine k_iload_n C dX5_endsAt_14 rfl ?_
      refine kx_V C rfl mv_X5_55 dX5_endsAt_15 ((c_cell H0 hT2 hs hb)) (by assumption) rfl rfl (Nat.le_of_ble_eq_true rfl) ⟨(Nat.le_of_ble_eq_true rfl), (Nat.le_of_ble_eq_true rfl)⟩ (by omega) (fun v h1 hp_ => ?_) (fun _ _ hx => hx.elim)
      obtain ⟨o2, rfl, e4, rfl⟩ := hp_
      obtain ⟨vo2, e5⟩ := e4.cell
      rw [hc] at e4
      refine kx_V C rfl mv_X5_59 dX5_endsAt_18 ((c_orGet e4)) (by assumption) rfl rfl (Nat.le_of_ble_eq_true rfl) ⟨(Nat.le_of_ble_eq_true rfl), (Nat.le_of_ble_eq_true rfl)⟩ (by omega) (fun v h1 hp_ => ?_) (fun _ _ hx => hx.elim)
      obtain ⟨a, rfl, e6, rfl⟩ := hp_
      unfold isRu at e6
      refine k_castO C ck_X5_62_6 dX5_endsAt_21 (by assumption) ?_
      refine k_getN C fn_X5_64 dX5_endsAt_24 (by assumption) (by rfl) ?_
      refine k_aload_n C dX5_endsAt_27 rfl ?_
      refine k_get C fg_X5_16 dX5_endsAt_28 (by assumption) (by rfl) ?_
      refine k_icmp_ne C dX5_endsAt_31 (tgt := 38) (by decide) (by omega) (fun h3 => ?_) (fun h4 => ?_)
      · refine k_iconst C dX5_endsAt_38 ?_
        exact k_zret (b := false) C E dX5_endsAt_39 (by omega) ⟨by rw [endsB_some hc, decide_eq_false h3], rfl⟩
      · refine k_iconst C dX5_endsAt_34 ?_
        refine k_goto C dX5_endsAt_35 (tgt := 39) (by decide) ?_
        exact k_zret (b := true) C E dX5_endsAt_39 (by omega) ⟨by rw [endsB_some hc, decide_eq_true h4], rfl⟩
/-- how many of the first k cells are empty -/
def cntE (T : Tb) : Nat → Int
  | 0 => 0
  | k + 1 => cntE T k + (if (T.2 (k : Int)).isSome then 0 else 1)
theorem cntE_b (T : Tb) : ∀ k : Nat, 0 ≤ cntE T k ∧ cntE T k ≤ k
  | 0 => ⟨Int.le_refl _, Int.le_refl _⟩
  | k + 1 => by
    have := cntE_b T k
    unfold cntE
    split <;> omega
theorem c_empty {w : Wd} {h : Hp} {t lst ar : Nat} {T : Tb} (H : isTb w h t lst ar T) (hT : T.1 ≤ 4) : Ct w yX5_empty (ws_ yX5_empty cX5_empty 3 (some FieldType.int)) 3 64 0 0 [.ref t] h (fun v h' => v = some (jI (cntE T (2 * T.1))) ∧ h' = h) NoX := by
  obtain ⟨H1, f, H2, H3⟩ := H
  have hl := H2.1
  refine Ct.of (by decide) [some (.ref t), none, none] rfl (Nat.le_of_ble_eq_true rfl) (fun K C E N0 => ?_)
  have loop : ∀ (d i : Nat), i + d = 2 * T.1 → Wk w K h 0 0 4 [some (.ref t), some (jI (cntE T i)), some (jI (i : Int))] [] := by
    intro d
    induction d with
    | zero =>
      intro i hi
      have hi' : i = 2 * T.1 := by omega
      subst hi'
      refine k_iload_n C dX5_empty_4 rfl ?_
      refine k_aload_n C dX5_empty_5 rfl ?_
      refine k_get C fg_X5_10 dX5_empty_6 (by assumption) (by rfl) ?_
      refine kx_F C rfl mf_X5_35 dX5_empty_9 ((c_size hl)) (by assumption) rfl rfl (Nat.le_of_ble_eq_true rfl) ⟨(Nat.le_of_ble_eq_true rfl), (Nat.le_of_ble_eq_true rfl)⟩ (by omega) (fun v h1 hp_ => ?_) (fun _ _ hx => hx.elim)
      obtain ⟨rfl, rfl⟩ := hp_
      refine k_icmp_ge C dX5_empty_14 (tgt := 50) (by decide) (by omega) (fun h1 => ?_) (fun h2 => ?_)
      · refine k_iload_n C dX5_empty_50 rfl ?_
        exact k_iret C E dX5_empty_51 (by omega) ⟨rfl, rfl⟩
      · omega
    | succ d ih =>
      intro i hi
      obtain ⟨o, e1, e2⟩ := H3 (i : Int) (by omega) (by omega)
      obtain ⟨vo, e3⟩ := e2.cell
      refine k_iload_n C dX5_empty_4 rfl ?_
      refine k_aload_n C dX5_empty_5 rfl ?_
      refine k_get C fg_X5_10 dX5_empty_6 (by assumption) (by rfl) ?_
      refine kx_F C rfl mf_X5_35 dX5_empty_9 ((c_size hl)) (by assumption) rfl rfl (Nat.le_of_ble_eq_true rfl) ⟨(Nat.le_of_ble_eq_true rfl), (Nat.le_of_ble_eq_true rfl)⟩ (by omega) (fun v h1 hp_ => ?_) (fun _ _ hx => hx.elim)
      obtain ⟨rfl, rfl⟩ := hp_
      refine k_icmp_ge C dX5_empty_14 (tgt := 50) (by decide) (by omega) (fun h1 => ?_) (fun h2 => ?_)
      · omega
      · refine k_iload_n C dX5_empty_17 rfl ?_
        refine k_aload_n C dX5_empty_18 rfl ?_
        refine k_get C fg_X5_10 dX5_empty_19 (by assumption) (by rfl) ?_
        refine k_iload_n C dX5_empty_22 rfl ?_
        refine kx_F C rfl mf_X5_39 dX5_empty_23 ((c_get H2 (by omega) e1)) (by assumption) rfl rfl (Nat.le_of_ble_eq_true rfl) ⟨(Nat.le_of_ble_eq_true rfl), (Nat.le_of_ble_eq_true rfl)⟩ (by omega) (fun v h1 hp_ => ?_) (fun _ _ hx => hx.elim)
        obtain ⟨rfl, rfl⟩ := hp_
        refine k_castO C ck_X5_21_15 dX5_empty_28 (by assumption) ?_
        refine kx_V C rfl mv_X5_51 dX5_empty_31 ((c_orPresent e2)) (by assumption) rfl rfl (Nat.le_of_ble_eq_true rfl) ⟨(Nat.le_of_ble_eq_true rfl), (Nat.le_of_ble_eq_true rfl)⟩ (by omega) (fun v h1 hp_ => ?_) (fun _ _ hx => hx.elim)
        obtain ⟨rfl, rfl⟩ := hp_
        have ec : cntE T (i + 1) = cntE T i + (if (T.2 (i : Int)).isSome then 0 else 1) := rfl
        refine k_ifeq_b C dX5_empty_34 (tgt := 41) (by decide) (fun h3 => ?_) (fun h4 => ?_)
        · rw [h3] at ec
          refine k_iconst C dX5_empty_41 ?_
          refine k_iadd C dX5_empty_42 ?_
          refine k_istore_n C dX5_empty_43 (Nat.le_of_ble_eq_true rfl) rfl ?_
          refine k_iinc C dX5_empty_44 rfl rfl ?_
          refine k_goto C dX5_empty_47 (tgt := 4) (by decide) ?_
          rw [show cntE T i + 1 = cntE T (i + 1) from ec.symm]
          exact ih (i + 1) (by omega)
        · rw [h4] at ec
          refine k_iconst C dX5_empty_37 ?_
          refine k_goto C dX5_empty_38 (tgt := 42) (by decide) ?_
          refine k_iadd C dX5_empty_42 ?_
          refine k_istore_n C dX5_empty_43 (Nat.le_of_ble_eq_true rfl) rfl ?_
          refine k_iinc C dX5_empty_44 rfl rfl ?_
          refine k_goto C dX5_empty_47 (tgt := 4) (by decide) ?_
          rw [show cntE T i + 0 = cntE T (i + 1) from ec.symm]
          exact ih (i + 1) (by omega)
  refine k_iconst C dX5_empty_0 ?_
  refine k_istore_n C dX5_empty_1 (Nat.le_of_ble_eq_true rfl) rfl ?_
  refine k_iconst C dX5_empty_2 ?_
  refine k_istore_n C dX5_empty_3 (Nat.le_of_ble_eq_true rfl) rfl ?_
  exact loop (2 * T.1) 0 (by omega)
/-- the greatest state below S that the first k cells go to -/
def mostN (T : Tb) : Nat → Int
  | 0 => 0
  | k + 1 => match T.2 (k : Int) with
    | none => mostN T k
    | some r => if r.2.2 < T.1 then max (mostN T k) r.2.2 else mostN T k
theorem mostN_b {T : Tb} (hT : TbOk T) : ∀ k : Nat, k ≤ 2 * T.1 → 0 ≤ mostN T k ∧ mostN T k < T.1
  | 0, _ => ⟨Int.le_refl _, by have := hT.1; show (0 : Int) < (T.1 : Int); omega⟩
  | k + 1, hk => by
    have ih := mostN_b hT k (by omega)
    unfold mostN
    cases hc : T.2 (k : Int) with
    | none => exact ih
    | some r =>
      have hr := hT.2.2 k r (by omega) (by omega) hc
      have := hr.2.2.1
      dsimp only
      split <;> omega
theorem mostN_none {T : Tb} {k : Nat} (h : T.2 (k : Int) = none) : mostN T (k + 1) = mostN T k := by rw [mostN, h]
theorem mostN_some {T : Tb} {k : Nat} {r : Ru} (h : T.2 (k : Int) = some r) : mostN T (k + 1) = if r.2.2 < T.1 then max (mostN T k) r.2.2 else mostN T k := by rw [mostN, h]
/-- the states that a child can go to -/
def reachN (T : Tb) : Int := min (T.1 : Int) (mostN T (2 * T.1) + 2)
theorem c_reachable {w : Wd} {h : Hp} {t lst ar : Nat} {T : Tb} (H : isTb w h t lst ar T) (hT : TbOk T) : Ct w yX5_reachable (ws_ yX5_reachable cX5_reachable 4 (some FieldType.int)) 3 64 0 0 [.ref t] h (fun v h' => v = some (jI (reachN T)) ∧ h' = h) NoX := by
  obtain ⟨H1, f, H2, H3⟩ := H
  obtain ⟨hT1, hT2, hT3⟩ := id hT
  have hl := H2.1
  refine Ct.of (by decide) [some (.ref t), none, none, none] rfl (Nat.le_of_ble_eq_true rfl) (fun K C E N0 => ?_)
  have loop : ∀ (d i : Nat) (x3 : Option Value), i + d = 2 * T.1 → Wk w K h 0 0 4 [some (.ref t), some (jI (mostN T i)), some (jI (i : Int)), x3] [] := by
    intro d
    induction d with
    | zero =>
      intro i x3 hi
      have hi' : i = 2 * T.1 := by omega
      subst hi'
      have hb := mostN_b hT (2 * T.1) (Nat.le_refl _)
      refine k_iload_n C dX5_reachable_4 rfl ?_
      refine k_aload_n C dX5_reachable_5 rfl ?_
      refine k_get C fg_X5_10 dX5_reachable_6 (by assumption) (by rfl) ?_
      refine kx_F C rfl mf_X5_35 dX5_reachable_9 ((c_size hl)) (by assumption) rfl rfl (Nat.le_of_ble_eq_true rfl) ⟨(Nat.le_of_ble_eq_true rfl), (Nat.le_of_ble_eq_true rfl)⟩ (by omega) (fun v h1 hp_ => ?_) (fun _ _ hx => hx.elim)
      obtain ⟨rfl, rfl⟩ := hp_
      refine k_icmp_ge C dX5_reachable_14 (tgt := 87) (by decide) (by omega) (fun h1 => ?_) (fun h2 => ?_)
      · refine k_aload_n C dX5_reachable_87 rfl ?_
        refine k_get C fg_X5_16 dX5_reachable_88 (by assumption) (by rfl) ?_
        refine k_iload_n C dX5_reachable_91 rfl ?_
        refine k_iconst C dX5_reachable_92 ?_
        refine k_iadd C dX5_reachable_93 ?_
        refine k_min C rfl q421 dX5_reachable_94 (by omega) ⟨(Nat.le_of_ble_eq_true rfl), (Nat.le_of_ble_eq_true rfl)⟩ (by omega) ?_
        exact k_iret C E dX5_reachable_97 (by omega) ⟨rfl, rfl⟩
      · omega
    | succ d ih =>
      intro i x3 hi
      obtain ⟨o, e1, e2⟩ := H3 (i : Int) (by omega) (by omega)
      obtain ⟨vo, e3⟩ := e2.cell
      have hb := mostN_b hT i (by omega)
      refine k_iload_n C dX5_reachable_4 rfl ?_
      refine k_aload_n C dX5_reachable_5 rfl ?_
      refine k_get C fg_X5_10 dX5_reachable_6 (by assumption) (by rfl) ?_
      refine kx_F C rfl mf_X5_35 dX5_reachable_9 ((c_size hl)) (by assumption) rfl rfl (Nat.le_of_ble_eq_true rfl) ⟨(Nat.le_of_ble_eq_true rfl), (Nat.le_of_ble_eq_true rfl)⟩ (by omega) (fun v h1 hp_ => ?_) (fun _ _ hx => hx.elim)
      obtain ⟨rfl, rfl⟩ := hp_
      refine k_icmp_ge C dX5_reachable_14 (tgt := 87) (by decide) (by omega) (fun h1 => ?_) (fun h2 => ?_)
      · omega
      · refine k_aload_n C dX5_reachable_17 rfl ?_
        refine k_get C fg_X5_10 dX5_reachable_18 (by assumption) (by rfl) ?_
        refine k_iload_n C dX5_reachable_21 rfl ?_
        refine kx_F C rfl mf_X5_39 dX5_reachable_22 ((c_get H2 (by omega) e1)) (by assumption) rfl rfl (Nat.le_of_ble_eq_true rfl) ⟨(Nat.le_of_ble_eq_true rfl), (Nat.le_of_ble_eq_true rfl)⟩ (by omega) (fun v h1 hp_ => ?_) (fun _ _ hx => hx.elim)
        obtain ⟨rfl, rfl⟩ := hp_
        refine k_castO C ck_X5_21_15 dX5_reachable_27 (by assumption) ?_
        refine kx_V C rfl mv_X5_51 dX5_reachable_30 ((c_orPresent e2)) (by assumption) rfl rfl (Nat.le_of_ble_eq_true rfl) ⟨(Nat.le_of_ble_eq_true rfl), (Nat.le_of_ble_eq_true rfl)⟩ (by omega) (fun v h1 hp_ => ?_) (fun _ _ hx => hx.elim)
        obtain ⟨rfl, rfl⟩ := hp_
        cases hc : T.2 (i : Int) with
        | none =>
          refine k_ifeq_b C dX5_reachable_33 (tgt := 61) (by decide) (fun h3 => ?_) (fun h4 => ?_)
          · refine k_iconst C dX5_reachable_61 ?_
            refine k_istore_n C dX5_reachable_62 (Nat.le_of_ble_eq_true rfl) rfl ?_
            refine k_iload_n C dX5_reachable_63 rfl ?_
            refine k_aload_n C dX5_reachable_64 rfl ?_
            refine k_get C fg_X5_16 dX5_reachable_65 (by assumption) (by rfl) ?_
            refine k_icmp_ge C dX5_reachable_68 (tgt := 79) (by decide) (by omega) (fun h5 => ?_) (fun h6 => ?_)
            · omega
            · refine k_iload_n C dX5_reachable_71 rfl ?_
              refine k_iload_n C dX5_reachable_72 rfl ?_
              refine k_max C rfl q420 dX5_reachable_73 (by omega) ⟨(Nat.le_of_ble_eq_true rfl), (Nat.le_of_ble_eq_true rfl)⟩ (by omega) ?_
              refine k_goto C dX5_reachable_76 (tgt := 80) (by decide) ?_
              refine k_istore_n C dX5_reachable_80 (Nat.le_of_ble_eq_true rfl) rfl ?_
              refine k_iinc C dX5_reachable_81 rfl rfl ?_
              refine k_goto C dX5_reachable_84 (tgt := 4) (by decide) ?_
              rw [show max (mostN T i) 0 = mostN T (i + 1) by rw [mostN_none hc]; omega]
              exact ih (i + 1) _ (by omega)
          · cases h4
        | some r =>
          rw [hc] at e2
          have hr := hT3 i r (by omega) (by omega) hc
          obtain ⟨hr1, hr2, hr3, hr4⟩ := hr
          refine k_ifeq_b C dX5_reachable_33 (tgt := 61) (by decide) (fun h3 => ?_) (fun h4 => ?_)
          · cases h3
          · refine k_aload_n C dX5_reachable_36 rfl ?_
            refine k_get C fg_X5_10 dX5_reachable_37 (by assumption) (by rfl) ?_
            refine k_iload_n C dX5_reachable_40 rfl ?_
            refine kx_F C rfl mf_X5_39 dX5_reachable_41 ((c_get H2 (by omega) e1)) (by assumption) rfl rfl (Nat.le_of_ble_eq_true rfl) ⟨(Nat.le_of_ble_eq_true rfl), (Nat.le_of_ble_eq_true rfl)⟩ (by omega) (fun v h1 hp_ => ?_) (fun _ _ hx => hx.elim)
            obtain ⟨rfl, rfl⟩ := hp_
            refine k_castO C ck_X5_21_15 dX5_reachable_46 (by assumption) ?_
            refine kx_V C rfl mv_X5_59 dX5_reachable_49 ((c_orGet e2)) (by assumption) rfl rfl (Nat.le_of_ble_eq_true rfl) ⟨(Nat.le_of_ble_eq_true rfl), (Nat.le_of_ble_eq_true rfl)⟩ (by omega) (fun v h1 hp_ => ?_) (fun _ _ hx => hx.elim)
            obtain ⟨a, rfl, e6, rfl⟩ := hp_
            unfold isRu at e6
            refine k_castO C ck_X5_62_6 dX5_reachable_52 (by assumption) ?_
            refine k_getN C fn_X5_64 dX5_reachable_55 (by assumption) (by rfl) ?_
            refine k_goto C dX5_reachable_58 (tgt := 62) (by decide) ?_
            refine k_istore_n C dX5_reachable_62 (Nat.le_of_ble_eq_true rfl) rfl ?_
            refine k_iload_n C dX5_reachable_63 rfl ?_
            refine k_aload_n C dX5_reachable_64 rfl ?_
            refine k_get C fg_X5_16 dX5_reachable_65 (by assumption) (by rfl) ?_
            refine k_icmp_ge C dX5_reachable_68 (tgt := 79) (by decide) (by omega) (fun h5 => ?_) (fun h6 => ?_)
            · refine k_iload_n C dX5_reachable_79 rfl ?_
              refine k_istore_n C dX5_reachable_80 (Nat.le_of_ble_eq_true rfl) rfl ?_
              refine k_iinc C dX5_reachable_81 rfl rfl ?_
              refine k_goto C dX5_reachable_84 (tgt := 4) (by decide) ?_
              rw [show mostN T i = mostN T (i + 1) by rw [mostN_some hc, if_neg (by omega)]]
              exact ih (i + 1) _ (by omega)
            · refine k_iload_n C dX5_reachable_71 rfl ?_
              refine k_iload_n C dX5_reachable_72 rfl ?_
              refine k_max C rfl q420 dX5_reachable_73 (by omega) ⟨(Nat.le_of_ble_eq_true rfl), (Nat.le_of_ble_eq_true rfl)⟩ (by omega) ?_
              refine k_goto C dX5_reachable_76 (tgt := 80) (by decide) ?_
              refine k_istore_n C dX5_reachable_80 (Nat.le_of_ble_eq_true rfl) rfl ?_
              refine k_iinc C dX5_reachable_81 rfl rfl ?_
              refine k_goto C dX5_reachable_84 (tgt := 4) (by decide) ?_
              rw [show max (mostN T i) r.2.2 = mostN T (i + 1) by rw [mostN_some hc, if_pos (by omega)]]
              exact ih (i + 1) _ (by omega)
  refine k_iconst C dX5_reachable_0 ?_
  refine k_istore_n C dX5_reachable_1 (Nat.le_of_ble_eq_true rfl) rfl ?_
  refine k_iconst C dX5_reachable_2 ?_
  refine k_istore_n C dX5_reachable_3 (Nat.le_of_ble_eq_true rfl) rfl ?_
  exact loop (2 * T.1) 0 _ (by omega)
theorem c_tbInit {w : Wd} {h : Hp} {t S : Nat} (hS : 2 ≤ S ∧ S ≤ 4) (ht : h.2 t = some (.inl (4, [jI 0, .null]))) : Ct w yX5_init (ws_ yX5_init cX5_init 3 none) 8 211 2 13 [.ref t, jI (S : Nat)] h (fun v h' => v = none ∧ ∃ lst ar, h.2 lst = none ∧ h.2 ar = none ∧ isTb w h' t lst ar (S, fun _ => none) ∧ Upd h h' [t]) NoX := by
  refine Ct.of (by decide) [some (.ref t), some (jI (S : Nat)), none] rfl (Nat.le_of_ble_eq_true rfl) (fun K C E N0 => ?_)
  refine k_aload_n C dX5_init_0 rfl ?_
  refine k_objinit C rfl q699 q72 qobj dX5_init_1 ⟨(Nat.le_of_ble_eq_true rfl), (Nat.le_of_ble_eq_true rfl)⟩ ?_
  refine k_aload_n C dX5_init_4 rfl ?_
  refine k_new C nw_X5_7 dX5_init_5 (by omega) (fun lst h1 N1 => ?_)
  have ht1 := N1.2.2.1.2 _ _ ht
  have hl1 := N1.2.1
  have htl := N1.ne ht
  refine k_dup C dX5_init_8 rfl ?_
  refine kx_I C rfl mi_X5_9 dX5_init_9 ((c_alInit hl1)) rfl rfl (Nat.le_of_ble_eq_true rfl) ⟨(Nat.le_of_ble_eq_true rfl), (Nat.le_of_ble_eq_true rfl)⟩ (by omega) (fun v h2 hp_ => ?_) (fun _ _ hx => hx.elim)
  obtain ⟨rfl, P2⟩ := hp_
  have ht2 := P2.2.2 _ _ ht1 htl
  refine k_putF C fg_X5_10 ft_4_1 rfl (fun r hr => by cases hr; rfl) dX5_init_12 (by assumption) (Or.inl rfl) rfl rfl (fun h3 P3 => ?_)
  have ht3 := P3.2.1
  refine k_aload_n C dX5_init_15 rfl ?_
  refine k_iload_n C dX5_init_16 rfl ?_
  refine k_putF C fg_X5_16 ft_4_0 rfl (fun r hr => by cases hr; rfl) dX5_init_17 (by assumption) (Or.inl rfl) rfl rfl (fun h4 P4 => ?_)
  have ht4 := P4.2.1
  have hl4 := P4.2.2 _ _ (P3.2.2 _ _ P2.2.1 (Ne.symm htl)) (Ne.symm htl)
  have hU4 : Upd h h4 [t] := ⟨by rw [P4.1, P3.1, P2.1]; exact N1.2.2.1.1, fun b d e hb => P4.2.2 _ _ (P3.2.2 _ _ (P2.2.2 _ _ (N1.2.2.1.2 _ _ e) (N1.ne e)) (by simpa using hb)) (by simpa using hb)⟩
  have loop : ∀ (d i : Nat), i + d = 2 * S → ∀ (hh : Hp) (ar cap n k : Nat) (f : Int → Option Nat), hh.2 t = some (.inl (4, [jI (S : Nat), .ref lst])) → isAL w hh lst ar i cap f → (∀ j : Int, 0 ≤ j → j < i → f j = some (w.ad 0)) → ((i = 0 ∧ n = 1 ∧ k = 3 ∧ cap = 0) ∨ (0 < i ∧ n = 2 ∧ k = 13 ∧ cap = 10 ∧ h.2 ar = none)) → Upd h hh [t] → Wk w K hh n k 22 [some (.ref t), some (jI (S : Nat)), some (jI (i : Int))] [] := by
    intro d
    induction d with
    | zero =>
      intro i hi hh ar cap n k f h1 h2 h3 h4 h5
      refine k_iload_n C dX5_init_22 rfl ?_
      refine k_iconst C dX5_init_23 ?_
      refine k_iload_n C dX5_init_24 rfl ?_
      refine k_imul C dX5_init_25 ?_
      refine k_icmp_ge C dX5_init_26 (tgt := 48) (by decide) (by omega) (fun h6 => ?_) (fun h7 => ?_)
      · rcases h4 with ⟨e1, -⟩ | ⟨e1, rfl, rfl, rfl, e2⟩
        · omega
        · have hi' : i = 2 * S := by omega
          subst hi'
          refine Wk.wf fun _ _ _ hc => ?_
          exact k_vret C E dX5_init_48 (by omega) ⟨rfl, lst, ar, N1.1, e2, ⟨h1, f, h2, fun k k0 k1 => ⟨w.ad 0, h3 k k0 k1, hc.1⟩⟩, h5⟩
      · omega
    | succ d ih =>
      intro i hi hh ar cap n k f h1 h2 h3 h4 h5
      refine Wk.wf fun _ _ _ hc => ?_
      have ho := hc.1
      have hE : isEl hh i f := fun j j0 j1 => ⟨w.ad 0, _, h3 j j0 j1, ho, rfl⟩
      have hl := h2.1
      have hol : w.ad 0 ≠ lst := ne_cel ho hl (ne_cls (by decide))
      have hoa : w.ad 0 ≠ ar := ne_cel ho h2.2.1 ne_ao
      have hcost : n + gcC i cap = 2 ∧ k + gcS i cap = 13 ∧ ncp i cap = 10 := by
        rcases h4 with ⟨rfl, rfl, rfl, rfl⟩ | ⟨e1, rfl, rfl, rfl, e2⟩
        · decide
        · rw [gcC_lt (by omega), gcS_lt (by omega), ncp_lt (by omega)]; decide
      refine k_iload_n C dX5_init_22 rfl ?_
      refine k_iconst C dX5_init_23 ?_
      refine k_iload_n C dX5_init_24 rfl ?_
      refine k_imul C dX5_init_25 ?_
      refine k_icmp_ge C dX5_init_26 (tgt := 48) (by decide) (by omega) (fun h6 => ?_) (fun h7 => ?_)
      · omega
      · refine k_aload_n C dX5_init_29 rfl ?_
        refine k_get C fg_X5_10 dX5_init_30 (by assumption) (by rfl) ?_
        refine kx_S C rfl ms_X5_20 dX5_init_33 (c_opEmpty) rfl rfl (Nat.le_of_ble_eq_true rfl) ⟨(Nat.le_of_ble_eq_true rfl), (Nat.le_of_ble_eq_true rfl)⟩ ⟨by omega, by omega⟩ (fun v h1' hp_ => ?_) (fun _ _ hx => hx.elim)
        obtain ⟨rfl, rfl⟩ := hp_
        refine kx_F C rfl mf_X5_26 dX5_init_36 ((c_add h2 (by omega) hE ho rfl hol hoa)) (by assumption) rfl rfl (Nat.le_of_ble_eq_true rfl) ⟨(Nat.le_of_ble_eq_true rfl), (Nat.le_of_ble_eq_true rfl)⟩ ⟨by omega, by omega⟩ (fun v h6 hp_ => ?_) (fun _ _ hx => hx.elim)
        obtain ⟨rfl, q, g, r1, r2, r3, r4⟩ := hp_
        refine Wk.widen (n' := 2) (k' := 13) (by omega) (by omega) ?_
        rw [hcost.2.2] at r1
        refine k_pop C dX5_init_41 rfl ?_
        refine k_iinc C dX5_init_42 rfl rfl ?_
        refine k_goto C dX5_init_45 (tgt := 22) (by decide) ?_
        have hta : t ≠ ar := ne_cel h1 h2.2.1 ne_ao
        have htl' : t ≠ lst := ne_cel h1 hl (ne_cls (by decide))
        have hg : ∀ j : Int, 0 ≤ j → j < ((i + 1 : Nat) : Int) → g j = some (w.ad 0) := fun j j0 j1 => by
          by_cases hj : j = i
          · rw [hj]; exact r3
          · rw [r2 j j0 (by omega)]; exact h3 j j0 (by omega)
        rcases r4 with ⟨z1, z2, z3⟩ | ⟨z1, z2, z3⟩
        · rcases h4 with ⟨rfl, -, -, rfl⟩ | ⟨e1, -, -, -, e2⟩
          · omega
          · refine ih (i + 1) (by omega) h6 q 10 2 13 g (z3.2 _ _ h1 (by simp [hta, htl'])) r1 hg (Or.inr ⟨by omega, rfl, rfl, rfl, by rw [z2]; exact e2⟩) (h5.trans z3 (fun x hx => ?_))
            have hx' : x = lst ∨ x = ar := by simpa using hx
            rcases hx' with e | e
            · rw [e]; exact Or.inr N1.1
            · rw [e]; exact Or.inr e2
        · refine ih (i + 1) (by omega) h6 q 10 2 13 g (z3.2 _ _ h1 (by simp [htl'])) r1 hg (Or.inr ⟨by omega, rfl, rfl, rfl, h5.none z2 (by simpa using fun x => by rw [x, h1] at z2; cases z2)⟩) (h5.trans z3 (fun x hx => ?_))
          have hx' : x = lst := by simpa using hx
          rw [hx']; exact Or.inr N1.1
  refine Wk.wf fun _ _ _ hc => ?_
  refine k_iconst C dX5_init_20 ?_
  refine k_istore_n C dX5_init_21 (Nat.le_of_ble_eq_true rfl) rfl ?_
  exact loop (2 * S) 0 (by omega) h4 (w.ad 5) 0 1 3 (fun _ => none) ht4 ⟨hl4, hc.2.2.2.2.2.1, Nat.le_refl _, by omega, fun _ => rfl⟩ (fun j j0 j1 => absurd j1 (by omega)) (Or.inl ⟨rfl, rfl, rfl, rfl⟩) hU4
/-- the table with one cell told -/
def tset (T : Tb) (k : Int) (r : Ru) : Tb := (T.1, up T.2 k (some r))
/-- copy: made cell for cell -/
theorem c_tbCopy {w : Wd} {h : Hp} {t lst ar : Nat} {T : Tb} (H : isTb w h t lst ar T) (hT : TbOk T) : Ct w yX5_copy (ws_ yX5_copy cX5_copy 3 (some (FieldType.object "Haltingale$Table"))) 9 233 3 15 [.ref t] h (fun v h' => ∃ q l2 a2, v = some (.ref q) ∧ h.2 q = none ∧ h.2 l2 = none ∧ h.2 a2 = none ∧ isTb w h' q l2 a2 T ∧ Ext h h') NoX := by
  obtain ⟨hT1, hT2, hT3⟩ := id hT
  refine Ct.of (by decide) [some (.ref t), none, none] rfl (Nat.le_of_ble_eq_true rfl) (fun K C E N0 => ?_)
  refine k_new C nw_X5_11 dX5_copy_0 (by omega) (fun q h1 N1 => ?_)
  have ht1 := N1.2.2.1.2 _ _ H.1
  have hq1 := N1.2.1
  refine k_dup C dX5_copy_3 rfl ?_
  refine k_aload_n C dX5_copy_4 rfl ?_
  refine k_get C fg_X5_16 dX5_copy_5 (by assumption) (by rfl) ?_
  refine kx_I C rfl mi_X5_32 dX5_copy_8 ((c_tbInit (S := T.1) ⟨hT1, hT2⟩ hq1)) rfl rfl (Nat.le_of_ble_eq_true rfl) ⟨(Nat.le_of_ble_eq_true rfl), (Nat.le_of_ble_eq_true rfl)⟩ (by omega) (fun v h2 hp_ => ?_) (fun _ _ hx => hx.elim)
  obtain ⟨rfl, l2, a2, n1, n2, T2, U2⟩ := hp_
  have hE2 : Ext h h2 := ⟨Nat.le_trans N1.2.2.1.1 U2.1, fun b d e => U2.2 _ _ (N1.2.2.1.2 _ _ e) (by simpa using N1.ne e)⟩
  obtain ⟨Q1, g0, Q2, Q3⟩ := T2
  have n1' : h.2 l2 = none := N1.2.2.1.upd [] |>.none n1 List.not_mem_nil
  have n2' : h.2 a2 = none := N1.2.2.1.upd [] |>.none n2 List.not_mem_nil
  have loop : ∀ (d i : Nat), i + d = 2 * T.1 → ∀ (hh : Hp) (g : Int → Option Nat), hh.2 q = some (.inl (4, [jI (T.1 : Nat), .ref l2])) → isAL w hh l2 a2 (2 * T.1) 10 g → (∀ j : Int, 0 ≤ j → j < (2 * T.1 : Nat) → ∃ o, g j = some o ∧ isOR hh o (if j < i then T.2 j else none)) → Ext h hh → Wk w K hh 3 15 14 [some (.ref t), some (.ref q), some (jI (i : Int))] [] := by
    intro d
    induction d with
    | zero =>
      intro i hi hh g G1 G2 G3 G4
      obtain ⟨H1, f, H2, H3⟩ := H.ext G4
      have hl := H2.1
      refine k_iload_n C dX5_copy_14 rfl ?_
      refine k_aload_n C dX5_copy_15 rfl ?_
      refine k_get C fg_X5_10 dX5_copy_16 (by assumption) (by rfl) ?_
      refine kx_F C rfl mf_X5_35 dX5_copy_19 ((c_size hl)) (by assumption) rfl rfl (Nat.le_of_ble_eq_true rfl) ⟨(Nat.le_of_ble_eq_true rfl), (Nat.le_of_ble_eq_true rfl)⟩ (by omega) (fun v h1 hp_ => ?_) (fun _ _ hx => hx.elim)
      obtain ⟨rfl, rfl⟩ := hp_
      refine k_icmp_ge C dX5_copy_24 (tgt := 57) (by decide) (by omega) (fun h6 => ?_) (fun h7 => ?_)
      · refine k_aload_n C dX5_copy_57 rfl ?_
        exact k_aret C (Or.inl ⟨_, rfl⟩) E dX5_copy_58 (by omega) ⟨q, l2, a2, rfl, N1.1, n1', n2', ⟨G1, g, G2, fun k k0 k1 => by have := G3 k k0 k1; rwa [if_pos (by omega)] at this⟩, G4⟩
      · omega
    | succ d ih =>
      intro i hi hh g G1 G2 G3 G4
      obtain ⟨H1, f, H2, H3⟩ := H.ext G4
      have hl := H2.1
      have hl2 := G2.1
      obtain ⟨o, e1, e2⟩ := H3 (i : Int) (by omega) (by omega)
      obtain ⟨vo, e3⟩ := e2.cell
      obtain ⟨o', e1', e2'⟩ := G3 (i : Int) (by omega) (by omega)
      refine k_iload_n C dX5_copy_14 rfl ?_
      refine k_aload_n C dX5_copy_15 rfl ?_
      refine k_get C fg_X5_10 dX5_copy_16 (by assumption) (by rfl) ?_
      refine kx_F C rfl mf_X5_35 dX5_copy_19 ((c_size hl)) (by assumption) rfl rfl (Nat.le_of_ble_eq_true rfl) ⟨(Nat.le_of_ble_eq_true rfl), (Nat.le_of_ble_eq_true rfl)⟩ (by omega) (fun v h1 hp_ => ?_) (fun _ _ hx => hx.elim)
      obtain ⟨rfl, rfl⟩ := hp_
      refine k_icmp_ge C dX5_copy_24 (tgt := 57) (by decide) (by omega) (fun h6 => ?_) (fun h7 => ?_)
      · omega
      · refine k_aload_n C dX5_copy_27 rfl ?_
        refine k_get C fg_X5_10 dX5_copy_28 (by assumption) (by rfl) ?_
        refine k_iload_n C dX5_copy_31 rfl ?_
        refine k_aload_n C dX5_copy_32 rfl ?_
        refine k_get C fg_X5_10 dX5_copy_33 (by assumption) (by rfl) ?_
        refine k_iload_n C dX5_copy_36 rfl ?_
        refine kx_F C rfl mf_X5_39 dX5_copy_37 ((c_get H2 (by omega) e1)) (by assumption) rfl rfl (Nat.le_of_ble_eq_true rfl) ⟨(Nat.le_of_ble_eq_true rfl), (Nat.le_of_ble_eq_true rfl)⟩ (by omega) (fun v h1 hp_ => ?_) (fun _ _ hx => hx.elim)
        obtain ⟨rfl, rfl⟩ := hp_
        refine k_castO C ck_X5_21_15 dX5_copy_42 (by assumption) ?_
        refine kx_F C rfl mf_X5_43 dX5_copy_45 ((c_set G2 (by omega) e1' e3 rfl)) (by assumption) rfl rfl (Nat.le_of_ble_eq_true rfl) ⟨(Nat.le_of_ble_eq_true rfl), (Nat.le_of_ble_eq_true rfl)⟩ (by omega) (fun v h8 hp_ => ?_) (fun _ _ hx => hx.elim)
        obtain ⟨rfl, P⟩ := hp_
        refine k_pop C dX5_copy_50 rfl ?_
        refine k_iinc C dX5_copy_51 rfl rfl ?_
        refine k_goto C dX5_copy_54 (tgt := 14) (by decide) ?_
        have hqa : q ≠ a2 := ne_cel G1 G2.2.1 ne_ao
        refine ih (i + 1) (by omega) h8 _ (P.2.2 _ _ G1 hqa) ⟨P.2.2 _ _ hl2 (ne_cel hl2 G2.2.1 ne_ao), P.2.1, G2.2.2⟩ (fun j j0 j1 => ?_) ⟨by rw [P.1]; exact G4.1, fun b d e => P.2.2 _ _ (G4.2 _ _ e) (fun x => by rw [x, n2'] at e; cases e)⟩
        by_cases hj : j = i
        · subst hj
          exact ⟨o, up_at, by rw [if_pos (by omega)]; exact e2.put P (fun x hx => by rw [G2.2.1] at hx; cases hx)⟩
        · obtain ⟨o3, f1, f2⟩ := G3 j j0 j1
          refine ⟨o3, (up_ne hj).trans f1, ?_⟩
          have := f2.put P (fun x hx => by rw [G2.2.1] at hx; cases hx)
          by_cases hji : j < i
          · rw [if_pos hji] at this; rw [if_pos (by omega)]; exact this
          · rw [if_neg hji] at this; rw [if_neg (by omega)]; exact this
  refine k_astore_n C dX5_copy_11 (Nat.le_of_ble_eq_true rfl) rfl ?_
  refine k_iconst C dX5_copy_12 ?_
  refine k_istore_n C dX5_copy_13 (Nat.le_of_ble_eq_true rfl) rfl ?_
  exact loop (2 * T.1) 0 (by omega) h2 g0 Q1 Q2 (fun j j0 j1 => by obtain ⟨o, e1, e2⟩ := Q3 j j0 j1; exact ⟨o, e1, by rw [if_neg (by omega)]; exact e2⟩) hE2
theorem c_rnn {w : Wd} {h : Hp} {a : Nat} : Ct w yJ15_requireNonNull (ws_ yJ15_requireNonNull cJ15_requireNonNull 1 (some (FieldType.object "java/lang/Object"))) 0 0 0 0 [.ref a] h (fun v h' => v = some (.ref a) ∧ h' = h) NoX := by
  refine Ct.of (by decide) [some (.ref a)] rfl (Nat.le_of_ble_eq_true rfl) (fun K C E N0 => ?_)
  refine k_aload_n C dJ15_requireNonNull_0 rfl ?_
  refine k_ifnonnull C dJ15_requireNonNull_1 (tgt := 12) (by decide) ?_
  refine k_aload_n C dJ15_requireNonNull_12 rfl ?_
  exact k_aret C (Or.inl ⟨_, rfl⟩) E dJ15_requireNonNull_13 (by omega) ⟨rfl, rfl⟩
theorem c_opOf {w : Wd} {h : Hp} {a : Nat} : Ct w yJ8_of (ws_ yJ8_of cJ8_of 1 (some (FieldType.object "java/util/Optional"))) 2 61 1 1 [.ref a] h (fun v h' => ∃ q, v = some (.ref q) ∧ New w h h' q (.inl (15, [.ref a]))) NoX := by
  refine Ct.of (by decide) [some (.ref a)] rfl (Nat.le_of_ble_eq_true rfl) (fun K C E N0 => ?_)
  refine k_new C nw_J8_2 dJ8_of_0 (by omega) (fun q h1 N1 => ?_)
  refine k_dup C dJ8_of_3 rfl ?_
  refine k_aload_n C dJ8_of_4 rfl ?_
  refine kx_S C rfl ms_J8_17 dJ8_of_5 (c_rnn) rfl rfl (Nat.le_of_ble_eq_true rfl) ⟨(Nat.le_of_ble_eq_true rfl), (Nat.le_of_ble_eq_true rfl)⟩ (by omega) (fun v h2 hp_ => ?_) (fun _ _ hx => hx.elim)
  obtain ⟨rfl, rfl⟩ := hp_
  refine kx_I C rfl mi_J8_23 dJ8_of_8 ((c_opInit N1.2.1 N1.2.2.2.1)) rfl rfl (Nat.le_of_ble_eq_true rfl) ⟨(Nat.le_of_ble_eq_true rfl), (Nat.le_of_ble_eq_true rfl)⟩ (by omega) (fun v h2 hp_ => ?_) (fun _ _ hx => hx.elim)
  obtain ⟨rfl, P⟩ := hp_
  exact k_aret C (Or.inl ⟨_, rfl⟩) E dJ8_of_11 (by omega) ⟨q, rfl, N1.put P⟩
theorem tbSet_aux {w : Wd} {h h1 h2 : Hp} {ar ru q cap : Nat} {T : Tb} {r : Ru} {K0 : Int} {g : Int → Option Nat} (G3 : ∀ k : Int, 0 ≤ k → k < (2 * T.1 : Nat) → ∃ o, g k = some o ∧ isOR h1 o (T.2 k)) (hr : isRu h ru r) (N1 : New w h h1 q (.inl (15, [.ref ru]))) (P : Put h1 h2 ar (aR 4 cap (up g K0 (some q)))) (hc : ∀ x : Nat × List Value, h1.2 ar = some (.inl x) → x.1 ≠ 15 ∧ x.1 ≠ 6) (k : Int) (k0 : 0 ≤ k) (k1 : k < (2 * T.1 : Nat)) : ∃ o, up g K0 (some q) k = some o ∧ isOR h2 o ((tset T K0 r).2 k) := by
  by_cases hk : k = K0
  · subst hk
    refine ⟨q, up_at, ?_⟩
    show isOR h2 q (up T.2 k (some r) k)
    rw [up_at]
    have hO : isOR h1 q (some r) := ⟨ru, N1.2.1, N1.2.2.1.2 _ _ hr⟩
    exact hO.put P hc
  · obtain ⟨o, e1, e2⟩ := G3 k k0 k1
    refine ⟨o, (up_ne hk).trans e1, ?_⟩
    show isOR h2 o (up T.2 K0 (some r) k)
    rw [up_ne hk]
    exact e2.put P hc
theorem c_tbSet {w : Wd} {h : Hp} {t lst ar ru : Nat} {T : Tb} {s b : Int} {r : Ru} (H : isTb w h t lst ar T) (hT : T.1 ≤ 4) (hs : 0 ≤ s ∧ s < T.1) (hb : 0 ≤ b ∧ b ≤ 1) (hr : isRu h ru r) : Ct w yX5_set (ws_ yX5_set cX5_set 4 none) 3 81 1 1 [.ref t, jI s, jI b, .ref ru] h (fun v h' => v = none ∧ isTb w h' t lst ar (tset T (2 * s + b) r) ∧ Upd h h' [ar]) NoX := by
  obtain ⟨H1, f, H2, H3⟩ := id H
  obtain ⟨o, e1, e2⟩ := H3 (2 * s + b) (by omega) (by omega)
  refine Ct.of (by decide) [some (.ref t), some (jI s), some (jI b), some (.ref ru)] rfl (Nat.le_of_ble_eq_true rfl) (fun K C E N0 => ?_)
  refine k_aload_n C dX5_set_0 rfl ?_
  refine k_get C fg_X5_10 dX5_set_1 (by assumption) (by rfl) ?_
  refine k_iconst C dX5_set_4 ?_
  refine k_iload_n C dX5_set_5 rfl ?_
  refine k_imul C dX5_set_6 ?_
  refine k_iload_n C dX5_set_7 rfl ?_
  refine k_iadd C dX5_set_8 ?_
  refine k_aload_n C dX5_set_9 rfl ?_
  refine kx_S C rfl ms_X5_47 dX5_set_10 (c_opOf) rfl rfl (Nat.le_of_ble_eq_true rfl) ⟨(Nat.le_of_ble_eq_true rfl), (Nat.le_of_ble_eq_true rfl)⟩ (by omega) (fun v h1 hp_ => ?_) (fun _ _ hx => hx.elim)
  obtain ⟨q, rfl, N1⟩ := hp_
  have H' := H.ext N1.2.2.1
  obtain ⟨G1, g, G2, G3⟩ := H.ext N1.2.2.1
  obtain ⟨o, e1, e2⟩ := G3 (2 * s + b) (by omega) (by omega)
  have hl := G2.1
  have hq := N1.2.1
  refine kx_F C rfl mf_X5_43 dX5_set_13 ((c_set G2 (by omega) e1 hq rfl)) (by assumption) rfl rfl (Nat.le_of_ble_eq_true rfl) ⟨(Nat.le_of_ble_eq_true rfl), (Nat.le_of_ble_eq_true rfl)⟩ (by omega) (fun v h2 hp_ => ?_) (fun _ _ hx => hx.elim)
  obtain ⟨rfl, P⟩ := hp_
  refine k_pop C dX5_set_18 rfl ?_
  have hta : t ≠ ar := ne_cel G1 G2.2.1 ne_ao
  have hc : ∀ x : Nat × List Value, h1.2 ar = some (.inl x) → x.1 ≠ 15 ∧ x.1 ≠ 6 := fun x hx => by rw [G2.2.1] at hx; cases hx
  exact k_vret C E dX5_set_19 (by omega) ⟨rfl, ⟨P.2.2 _ _ G1 hta, _, ⟨P.2.2 _ _ hl (ne_cel hl G2.2.1 ne_ao), P.2.1, G2.2.2⟩, fun k k0 k1 => tbSet_aux G3 hr N1 P hc k k0 k1⟩, ⟨by rw [P.1]; exact N1.2.2.1.1, fun c d e hb => P.2.2 _ _ (N1.2.2.1.2 _ _ e) (by simpa using hb)⟩⟩
/-- two cells alike, one of them turned -/
def turnR (b : Bool) (r : Ru) : Ru := (r.1, if b then -r.2.1 else r.2.1, r.2.2)
def cellAs (b : Bool) (x y : Option Ru) : Bool := match x, y with
  | none, none => true
  | some r, some s => decide (turnR b r = s)
  | _, _ => false
def asN (b : Bool) (T U : Tb) : Nat → Bool
  | 0 => true
  | k + 1 => asN b T U k && cellAs b (T.2 (k : Int)) (U.2 (k : Int))
theorem asN_false {b : Bool} {T U : Tb} {k : Nat} (h : cellAs b (T.2 (k : Int)) (U.2 (k : Int)) = false) : ∀ n : Nat, k < n → asN b T U n = false
  | 0, hk => absurd hk (Nat.not_lt_zero _)
  | n + 1, hk => by
    unfold asN
    by_cases hkn : k = n
    · subst hkn; rw [h]; simp
    · rw [asN_false h n (by omega)]; rfl
def asB (b : Bool) (T U : Tb) : Bool := decide (T.1 = U.1) && asN b T U (2 * T.1)
theorem RuOk.small {S : Nat} {r : Ru} (hS : S ≤ 4) (h : RuOk S r) (b : Bool) : RuB (turnR b r) := by
  obtain ⟨h1, h2, h3, h4⟩ := h
  unfold RuB turnR
  dsimp only
  cases b
  · rcases h1 with e | e <;> rcases h2 with e2 | e2 <;> simp [e, e2] <;> omega
  · rcases h1 with e | e <;> rcases h2 with e2 | e2 <;> simp [e, e2] <;> omega
theorem turnR_f (r : Ru) : turnR false r = r := rfl
theorem c_tbIsAs {w : Wd} {h : Hp} {t l1 a1 u l2 a2 : Nat} {T U : Tb} {b : Bool} (H : isTb w h t l1 a1 T) (G : isTb w h u l2 a2 U) (hT : TbOk T) (hU : TbOk U) : Ct w yX5_isAs (ws_ yX5_isAs cX5_isAs 5 (some FieldType.boolean)) 3 83 8 24 [.ref t, .ref u, jI (b2i b)] h (fun v h' => v = some (jI (b2i (asB b T U))) ∧ Ext h h') NoX := by
  obtain ⟨hT1, hT2, hT3⟩ := id hT
  obtain ⟨hU1, hU2, hU3⟩ := id hU
  have H1 := H.1
  have G1 := G.1
  refine Ct.of (by decide) [some (.ref t), some (.ref u), some (jI (b2i b)), none, none] rfl (Nat.le_of_ble_eq_true rfl) (fun K C E N0 => ?_)
  refine k_aload_n C dX5_isAs_0 rfl ?_
  refine k_get C fg_X5_16 dX5_isAs_1 (by assumption) (by rfl) ?_
  refine k_aload_n C dX5_isAs_4 rfl ?_
  refine k_get C fg_X5_16 dX5_isAs_5 (by assumption) (by rfl) ?_
  refine k_icmp_eq C dX5_isAs_8 (tgt := 13) (by decide) (by omega) (fun h1 => ?_) (fun h2 => ?_)
  rotate_left
  · refine k_iconst C dX5_isAs_11 ?_
    exact k_zret (b := false) C E dX5_isAs_12 (by omega) ⟨by unfold asB; rw [decide_eq_false (by omega)]; rfl, Ext.refl _⟩
  have hS : T.1 = U.1 := by omega
  have loop : ∀ (d i : Nat), i + d = 2 * T.1 → asN b T U i = true → ∀ (hh : Hp) (x4 : Option Value), Ext h hh → Wk w K hh i (3 * i) 15 [some (.ref t), some (.ref u), some (jI (b2i b)), some (jI (i : Int)), x4] [] := by
    intro d
    induction d with
    | zero =>
      intro i hi has hh x4 hE
      obtain ⟨H1, f, H2, H3⟩ := H.ext hE
      have hl := H2.1
      refine k_iload_n C dX5_isAs_15 rfl ?_
      refine k_aload_n C dX5_isAs_16 rfl ?_
      refine k_get C fg_X5_10 dX5_isAs_17 (by assumption) (by rfl) ?_
      refine kx_F C rfl mf_X5_35 dX5_isAs_20 ((c_size hl)) (by assumption) rfl rfl (Nat.le_of_ble_eq_true rfl) ⟨(Nat.le_of_ble_eq_true rfl), (Nat.le_of_ble_eq_true rfl)⟩ (by omega) (fun v h1 hp_ => ?_) (fun _ _ hx => hx.elim)
      obtain ⟨rfl, rfl⟩ := hp_
      refine k_icmp_ge C dX5_isAs_25 (tgt := 169) (by decide) (by omega) (fun h6 => ?_) (fun h7 => ?_)
      · refine k_iconst C dX5_isAs_169 ?_
        have hi' : i = 2 * T.1 := by omega
        exact k_zret (b := true) C E dX5_isAs_170 (by omega) ⟨by unfold asB; rw [decide_eq_true hS, ← hi', has]; rfl, hE⟩
      · omega
    | succ d ih =>
      intro i hi has hh x4 hE
      obtain ⟨H1, f, H2, H3⟩ := H.ext hE
      obtain ⟨G1, g, G2, G3⟩ := G.ext hE
      have hl := H2.1
      have hl2 := G2.1
      obtain ⟨o, e1, e2⟩ := H3 (i : Int) (by omega) (by omega)
      obtain ⟨vo, e3⟩ := e2.cell
      obtain ⟨o', e1', e2'⟩ := G3 (i : Int) (by omega) (by omega)
      obtain ⟨vo', e3'⟩ := e2'.cell
      have hfail : cellAs b (T.2 (i : Int)) (U.2 (i : Int)) = false → asB b T U = false := fun e => by unfold asB; rw [asN_false e (2 * T.1) (by omega)]; simp
      refine k_iload_n C dX5_isAs_15 rfl ?_
      refine k_aload_n C dX5_isAs_16 rfl ?_
      refine k_get C fg_X5_10 dX5_isAs_17 (by assumption) (by rfl) ?_
      refine kx_F C rfl mf_X5_35 dX5_isAs_20 ((c_size hl)) (by assumption) rfl rfl (Nat.le_of_ble_eq_true rfl) ⟨(Nat.le_of_ble_eq_true rfl), (Nat.le_of_ble_eq_true rfl)⟩ (by omega) (fun v h1 hp_ => ?_) (fun _ _ hx => hx.elim)
      obtain ⟨rfl, rfl⟩ := hp_
      refine k_icmp_ge C dX5_isAs_25 (tgt := 169) (by decide) (by omega) (fun h6 => ?_) (fun h7 => ?_)
      · omega
      refine k_aload_n C dX5_isAs_28 rfl ?_
      refine k_get C fg_X5_10 dX5_isAs_29 (by assumption) (by rfl) ?_
      refine k_iload_n C dX5_isAs_32 rfl ?_
      refine kx_F C rfl mf_X5_39 dX5_isAs_33 ((c_get H2 (by omega) e1)) (by assumption) rfl rfl (Nat.le_of_ble_eq_true rfl) ⟨(Nat.le_of_ble_eq_true rfl), (Nat.le_of_ble_eq_true rfl)⟩ (by omega) (fun v h1 hp_ => ?_) (fun _ _ hx => hx.elim)
      obtain ⟨rfl, rfl⟩ := hp_
      refine k_castO C ck_X5_21_15 dX5_isAs_38 (by assumption) ?_
      refine kx_V C rfl mv_X5_51 dX5_isAs_41 ((c_orPresent e2)) (by assumption) rfl rfl (Nat.le_of_ble_eq_true rfl) ⟨(Nat.le_of_ble_eq_true rfl), (Nat.le_of_ble_eq_true rfl)⟩ (by omega) (fun v h1 hp_ => ?_) (fun _ _ hx => hx.elim)
      obtain ⟨rfl, rfl⟩ := hp_
      refine k_aload_n C dX5_isAs_44 rfl ?_
      refine k_get C fg_X5_10 dX5_isAs_45 (by assumption) (by rfl) ?_
      refine k_iload_n C dX5_isAs_48 rfl ?_
      refine kx_F C rfl mf_X5_39 dX5_isAs_49 ((c_get G2 (by omega) e1')) (by assumption) rfl rfl (Nat.le_of_ble_eq_true rfl) ⟨(Nat.le_of_ble_eq_true rfl), (Nat.le_of_ble_eq_true rfl)⟩ (by omega) (fun v h1 hp_ => ?_) (fun _ _ hx => hx.elim)
      obtain ⟨rfl, rfl⟩ := hp_
      refine k_castO C ck_X5_21_15 dX5_isAs_54 (by assumption) ?_
      refine kx_V C rfl mv_X5_51 dX5_isAs_57 ((c_orPresent e2')) (by assumption) rfl rfl (Nat.le_of_ble_eq_true rfl) ⟨(Nat.le_of_ble_eq_true rfl), (Nat.le_of_ble_eq_true rfl)⟩ (by omega) (fun v h1 hp_ => ?_) (fun _ _ hx => hx.elim)
      obtain ⟨rfl, rfl⟩ := hp_
      cases hc : T.2 (i : Int) with
      | none =>
        rw [hc] at e2 hfail
        cases hc' : U.2 (i : Int) with
        | none =>
          refine k_icmp_eq C dX5_isAs_60 (tgt := 65) (by decide) (by simp [b2i]) (fun _ => ?_) (fun z => absurd rfl z)
          refine k_aload_n C dX5_isAs_65 rfl ?_
          refine k_get C fg_X5_10 dX5_isAs_66 (by assumption) (by rfl) ?_
          refine k_iload_n C dX5_isAs_69 rfl ?_
          refine kx_F C rfl mf_X5_39 dX5_isAs_70 ((c_get H2 (by omega) e1)) (by assumption) rfl rfl (Nat.le_of_ble_eq_true rfl) ⟨(Nat.le_of_ble_eq_true rfl), (Nat.le_of_ble_eq_true rfl)⟩ (by omega) (fun v h1 hp_ => ?_) (fun _ _ hx => hx.elim)
          obtain ⟨rfl, rfl⟩ := hp_
          refine k_castO C ck_X5_21_15 dX5_isAs_75 (by assumption) ?_
          refine kx_V C rfl mv_X5_51 dX5_isAs_78 ((c_orPresent e2)) (by assumption) rfl rfl (Nat.le_of_ble_eq_true rfl) ⟨(Nat.le_of_ble_eq_true rfl), (Nat.le_of_ble_eq_true rfl)⟩ (by omega) (fun v h1 hp_ => ?_) (fun _ _ hx => hx.elim)
          obtain ⟨rfl, rfl⟩ := hp_
          refine k_ifeq_b C dX5_isAs_81 (tgt := 163) (by decide) (fun h8 => ?_) (fun h9 => ?_)
          · refine k_iinc C dX5_isAs_163 rfl rfl ?_
            refine k_goto C dX5_isAs_166 (tgt := 15) (by decide) ?_
            refine Wk.widen (n' := i + 1) (k' := 3 * (i + 1)) (by omega) (by omega) ?_
            exact ih (i + 1) (by omega) (by unfold asN; rw [has, hc, hc']; rfl) h1 _ hE
          · cases h9
        | some r' =>
          refine k_icmp_eq C dX5_isAs_60 (tgt := 65) (by decide) (by simp [b2i]) (fun z => by cases z) (fun _ => ?_)
          refine k_iconst C dX5_isAs_63 ?_
          exact k_zret (b := false) C E dX5_isAs_64 (by omega) ⟨by rw [hfail (by rw [hc']; rfl)], hE⟩
      | some r =>
        rw [hc] at e2 hfail
        have hr := hT3 i r (by omega) (by omega) hc
        cases hc' : U.2 (i : Int) with
        | none =>
          refine k_icmp_eq C dX5_isAs_60 (tgt := 65) (by decide) (by simp [b2i]) (fun z => by cases z) (fun _ => ?_)
          refine k_iconst C dX5_isAs_63 ?_
          exact k_zret (b := false) C E dX5_isAs_64 (by omega) ⟨by rw [hfail (by rw [hc']; rfl)], hE⟩
        | some r' =>
          rw [hc'] at e2' hfail
          have hr' := hU3 i r' (by omega) (by omega) hc'
          refine k_icmp_eq C dX5_isAs_60 (tgt := 65) (by decide) (by simp [b2i]) (fun _ => ?_) (fun z => absurd rfl z)
          refine k_aload_n C dX5_isAs_65 rfl ?_
          refine k_get C fg_X5_10 dX5_isAs_66 (by assumption) (by rfl) ?_
          refine k_iload_n C dX5_isAs_69 rfl ?_
          refine kx_F C rfl mf_X5_39 dX5_isAs_70 ((c_get H2 (by omega) e1)) (by assumption) rfl rfl (Nat.le_of_ble_eq_true rfl) ⟨(Nat.le_of_ble_eq_true rfl), (Nat.le_of_ble_eq_true rfl)⟩ (by omega) (fun v h1 hp_ => ?_) (fun _ _ hx => hx.elim)
          obtain ⟨rfl, rfl⟩ := hp_
          refine k_castO C ck_X5_21_15 dX5_isAs_75 (by assumption) ?_
          refine kx_V C rfl mv_X5_51 dX5_isAs_78 ((c_orPresent e2)) (by assumption) rfl rfl (Nat.le_of_ble_eq_true rfl) ⟨(Nat.le_of_ble_eq_true rfl), (Nat.le_of_ble_eq_true rfl)⟩ (by omega) (fun v h1 hp_ => ?_) (fun _ _ hx => hx.elim)
          obtain ⟨rfl, rfl⟩ := hp_
          refine k_ifeq_b C dX5_isAs_81 (tgt := 163) (by decide) (fun h8 => ?_) (fun h9 => ?_)
          · cases h8
          have fin : ∀ (h2 : Hp) (a n k : Nat), Ext h1 h2 → isRu h2 a (turnR b r) → n ≤ i + 1 → k ≤ 3 * (i + 1) → Wk w K h2 n k 132 [some (.ref t), some (.ref u), some (jI (b2i b)), some (jI (i : Int)), x4] [.ref a] := by
            intro h2 a n k hE2 ha hn hk
            have ha' := ha
            unfold isRu at ha'
            obtain ⟨G1, g', G2, G3⟩ := G.ext (hE.trans hE2)
            have hl2 := G2.1
            obtain ⟨o', e1', e2'⟩ := G3 (i : Int) (by omega) (by omega)
            obtain ⟨vo', e3'⟩ := e2'.cell
            rw [hc'] at e2'
            refine k_astore C dX5_isAs_132 (Nat.le_of_ble_eq_true rfl) rfl ?_
            refine k_aload C dX5_isAs_134 rfl ?_
            refine k_aload_n C dX5_isAs_136 rfl ?_
            refine k_get C fg_X5_10 dX5_isAs_137 (by assumption) (by rfl) ?_
            refine k_iload_n C dX5_isAs_140 rfl ?_
            refine kx_F C rfl mf_X5_39 dX5_isAs_141 ((c_get G2 (by omega) e1')) (by assumption) rfl rfl (Nat.le_of_ble_eq_true rfl) ⟨(Nat.le_of_ble_eq_true rfl), (Nat.le_of_ble_eq_true rfl)⟩ (by omega) (fun v h1 hp_ => ?_) (fun _ _ hx => hx.elim)
            obtain ⟨rfl, rfl⟩ := hp_
            refine k_castO C ck_X5_21_15 dX5_isAs_146 (by assumption) ?_
            refine kx_V C rfl mv_X5_59 dX5_isAs_149 ((c_orGet e2')) (by assumption) rfl rfl (Nat.le_of_ble_eq_true rfl) ⟨(Nat.le_of_ble_eq_true rfl), (Nat.le_of_ble_eq_true rfl)⟩ (by omega) (fun v h1 hp_ => ?_) (fun _ _ hx => hx.elim)
            obtain ⟨a', rfl, e6, rfl⟩ := hp_
            have e6' := e6
            unfold isRu at e6'
            refine k_castO C ck_X5_62_6 dX5_isAs_152 (by assumption) ?_
            refine kx_V C rfl mv_X5_80 dX5_isAs_155 ((c_ruIsAs (hr.small hT2 b) (hr'.small hU2 false) ha e6)) (by assumption) rfl rfl (Nat.le_of_ble_eq_true rfl) ⟨(Nat.le_of_ble_eq_true rfl), (Nat.le_of_ble_eq_true rfl)⟩ (by omega) (fun v h1 hp_ => ?_) (fun _ _ hx => hx.elim)
            obtain ⟨rfl, rfl⟩ := hp_
            refine k_ifne_b C dX5_isAs_158 (tgt := 163) (by decide) (fun h8 => ?_) (fun h9 => ?_)
            · refine k_iinc C dX5_isAs_163 rfl rfl ?_
              refine k_goto C dX5_isAs_166 (tgt := 15) (by decide) ?_
              refine Wk.widen (n' := i + 1) (k' := 3 * (i + 1)) (by omega) (by omega) ?_
              exact ih (i + 1) (by omega) (by unfold asN; rw [has, hc, hc']; exact h8) h1 _ (hE.trans hE2)
            · refine k_iconst C dX5_isAs_161 ?_
              exact k_zret (b := false) C E dX5_isAs_162 (by omega) ⟨by rw [hfail h9], hE.trans hE2⟩
          refine k_iload_n C dX5_isAs_84 rfl ?_
          refine k_ifeq_b C dX5_isAs_85 (tgt := 113) (by decide) (fun h10 => ?_) (fun h11 => ?_)
          · refine k_aload_n C dX5_isAs_113 rfl ?_
            refine k_get C fg_X5_10 dX5_isAs_114 (by assumption) (by rfl) ?_
            refine k_iload_n C dX5_isAs_117 rfl ?_
            refine kx_F C rfl mf_X5_39 dX5_isAs_118 ((c_get H2 (by omega) e1)) (by assumption) rfl rfl (Nat.le_of_ble_eq_true rfl) ⟨(Nat.le_of_ble_eq_true rfl), (Nat.le_of_ble_eq_true rfl)⟩ (by omega) (fun v h1 hp_ => ?_) (fun _ _ hx => hx.elim)
            obtain ⟨rfl, rfl⟩ := hp_
            refine k_castO C ck_X5_21_15 dX5_isAs_123 (by assumption) ?_
            refine kx_V C rfl mv_X5_59 dX5_isAs_126 ((c_orGet e2)) (by assumption) rfl rfl (Nat.le_of_ble_eq_true rfl) ⟨(Nat.le_of_ble_eq_true rfl), (Nat.le_of_ble_eq_true rfl)⟩ (by omega) (fun v h1 hp_ => ?_) (fun _ _ hx => hx.elim)
            obtain ⟨a, rfl, e6, rfl⟩ := hp_
            have e6' := e6
            unfold isRu at e6'
            refine k_castO C ck_X5_62_6 dX5_isAs_129 (by assumption) ?_
            exact fin h1 a _ _ (Ext.refl _) (by rw [h10]; exact e6) (by omega) (by omega)
          · refine k_aload_n C dX5_isAs_88 rfl ?_
            refine k_get C fg_X5_10 dX5_isAs_89 (by assumption) (by rfl) ?_
            refine k_iload_n C dX5_isAs_92 rfl ?_
            refine kx_F C rfl mf_X5_39 dX5_isAs_93 ((c_get H2 (by omega) e1)) (by assumption) rfl rfl (Nat.le_of_ble_eq_true rfl) ⟨(Nat.le_of_ble_eq_true rfl), (Nat.le_of_ble_eq_true rfl)⟩ (by omega) (fun v h1 hp_ => ?_) (fun _ _ hx => hx.elim)
            obtain ⟨rfl, rfl⟩ := hp_
            refine k_castO C ck_X5_21_15 dX5_isAs_98 (by assumption) ?_
            refine kx_V C rfl mv_X5_59 dX5_isAs_101 ((c_orGet e2)) (by assumption) rfl rfl (Nat.le_of_ble_eq_true rfl) ⟨(Nat.le_of_ble_eq_true rfl), (Nat.le_of_ble_eq_true rfl)⟩ (by omega) (fun v h1 hp_ => ?_) (fun _ _ hx => hx.elim)
            obtain ⟨a, rfl, e6, rfl⟩ := hp_
            have e6' := e6
            unfold isRu at e6'
            refine k_castO C ck_X5_62_6 dX5_isAs_104 (by assumption) ?_
            refine kx_V C rfl mv_X5_76 dX5_isAs_107 ((c_turned e6)) (by assumption) rfl rfl (Nat.le_of_ble_eq_true rfl) ⟨(Nat.le_of_ble_eq_true rfl), (Nat.le_of_ble_eq_true rfl)⟩ (by omega) (fun v h2 hp_ => ?_) (fun _ _ hx => hx.elim)
            obtain ⟨a2, rfl, e7, hE2⟩ := hp_
            refine k_goto C dX5_isAs_110 (tgt := 132) (by decide) ?_
            exact fin h2 a2 _ _ hE2 (by rw [h11]; exact e7) (by omega) (by omega)
  refine k_iconst C dX5_isAs_13 ?_
  refine k_istore_n C dX5_isAs_14 (Nat.le_of_ble_eq_true rfl) rfl ?_
  exact loop (2 * T.1) 0 (by omega) rfl h _ (Ext.refl _)
