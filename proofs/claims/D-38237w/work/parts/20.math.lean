/-! ===== the JDK's leaves: Math, Optional ===== -/
set_option maxRecDepth 100000
theorem qobj : Cond.code objectInit ⟨#[0xb1]⟩ 1 none ∈ lw_all := q73
section MATH
variable {w : Wd} {K : KT} {own nm : String} {cc : ByteArray} {nL : Nat} {ret : Option FieldType} {fr lo mc ms : Nat} {h : Hp} {n k pc : Nat} {L : List (Option Value)} {st : List Value}
theorem k_max {idx : Nat} {a b : Int} (C : Cx w K own cc nL ret nm fr lo mc ms) (hL0 : L.length = nL) (q : Cond.methodLink own idx yJ10_max ∈ lw_all) (hd : decode cc pc = .ok (.invokestatic idx, 3)) (hr : -2147483648 ≤ a ∧ a < 2147483648 ∧ -2147483648 ≤ b ∧ b < 2147483648) (hR : 1 ≤ fr ∧ (st.map fun v => v.category).sum + 13 ≤ lo) (hm : n ≤ mc ∧ k ≤ ms) (kk : Wk w K h n k (pc + 3) L (jI (max a b) :: st)) : Wk w K h n k pc L (jI b :: jI a :: st) := by
  intro H locs ls R hl hL
  refine va_mmax C.1 C.2.1 (by rw [C.2.2.1, ← hL0]; exact hL.size.symm) C.ownC (C.hts _ q) (C.hts _ q394) (C.hts _ q40) (C.hts _ q395) (by rw [C.room]; exact hR.1) (by rw [C.room]; exact hR.2) (by rw [C.room]; exact hm.1) (by rw [C.room]; exact hm.2) (x := Int32.ofInt a) (y := Int32.ofInt b) hd ?_
  have e : (if Int32.ofInt a < Int32.ofInt b then Int32.ofInt b else Int32.ofInt a) = Int32.ofInt (max a b) := by
    by_cases hc : a < b
    · rw [if_pos ((oi_lt hr).mpr hc), show max a b = b by omega]
    · rw [if_neg (fun q => hc ((oi_lt hr).mp q)), show max a b = a by omega]
  rw [e]
  exact kk H locs ls R hl hL
theorem k_min {idx : Nat} {a b : Int} (C : Cx w K own cc nL ret nm fr lo mc ms) (hL0 : L.length = nL) (q : Cond.methodLink own idx yJ10_min ∈ lw_all) (hd : decode cc pc = .ok (.invokestatic idx, 3)) (hr : -2147483648 ≤ a ∧ a < 2147483648 ∧ -2147483648 ≤ b ∧ b < 2147483648) (hR : 1 ≤ fr ∧ (st.map fun v => v.category).sum + 13 ≤ lo) (hm : n ≤ mc ∧ k ≤ ms) (kk : Wk w K h n k (pc + 3) L (jI (min a b) :: st)) : Wk w K h n k pc L (jI b :: jI a :: st) := by
  intro H locs ls R hl hL
  refine va_mmin C.1 C.2.1 (by rw [C.2.2.1, ← hL0]; exact hL.size.symm) C.ownC (C.hts _ q) (C.hts _ q391) (C.hts _ q40) (C.hts _ q392) (by rw [C.room]; exact hR.1) (by rw [C.room]; exact hR.2) (by rw [C.room]; exact hm.1) (by rw [C.room]; exact hm.2) (x := Int32.ofInt a) (y := Int32.ofInt b) hd ?_
  have e : (if Int32.ofInt b < Int32.ofInt a then Int32.ofInt b else Int32.ofInt a) = Int32.ofInt (min a b) := by
    have hr' : -2147483648 ≤ b ∧ b < 2147483648 ∧ -2147483648 ≤ a ∧ a < 2147483648 := ⟨hr.2.2.1, hr.2.2.2, hr.1, hr.2.1⟩
    by_cases hc : b < a
    · rw [if_pos ((oi_lt hr').mpr hc), show min a b = b by omega]
    · rw [if_neg (fun q => hc ((oi_lt hr').mp q)), show min a b = a by omega]
  rw [e]
  exact kk H locs ls R hl hL
theorem k_abs {idx : Nat} {a : Int} (C : Cx w K own cc nL ret nm fr lo mc ms) (hL0 : L.length = nL) (q : Cond.methodLink own idx yJ10_abs ∈ lw_all) (hd : decode cc pc = .ok (.invokestatic idx, 3)) (hr : -2147483648 ≤ a ∧ a < 2147483648) (hR : 1 ≤ fr ∧ (st.map fun v => v.category).sum + 13 ≤ lo) (hm : n ≤ mc ∧ k ≤ ms) (kk : Wk w K h n k (pc + 3) L (jI (if 0 ≤ a then a else -a) :: st)) : Wk w K h n k pc L (jI a :: st) := by
  intro H locs ls R hl hL
  refine va_mabs C.1 C.2.1 (by rw [C.2.2.1, ← hL0]; exact hL.size.symm) C.ownC (C.hts _ q) (C.hts _ q431) (C.hts _ q40) (C.hts _ q432) (by rw [C.room]; exact hR.1) (by rw [C.room]; exact hR.2) (by rw [C.room]; exact hm.1) (by rw [C.room]; exact hm.2) (x := Int32.ofInt a) hd ?_
  have e0 : (0 : Int32) = Int32.ofInt 0 := rfl
  have e : (if 0 ≤ Int32.ofInt a then Int32.ofInt a else 0 - Int32.ofInt a) = Int32.ofInt (if 0 ≤ a then a else -a) := by
    have hr' : -2147483648 ≤ (0 : Int) ∧ (0 : Int) < 2147483648 ∧ -2147483648 ≤ a ∧ a < 2147483648 := ⟨by omega, by omega, hr.1, hr.2⟩
    by_cases hc : 0 ≤ a
    · rw [if_pos (by rw [e0]; exact (oi_le hr').mpr hc), if_pos hc]
    · rw [if_neg (fun q => hc (by rw [e0] at q; exact (oi_le hr').mp q)), if_neg hc, e0, oi_sub, Int.zero_sub]
  rw [e]
  exact kk H locs ls R hl hL
end MATH
/-- an Optional: nothing, or an address -/
def isOp (h : Hp) (o : Nat) (r : Option Nat) : Prop := h.2 o = some (.inl (15, [rf r]))
theorem c_isPresent {w : Wd} {h : Hp} {o : Nat} {r : Option Nat} (ho : isOp h o r) : Ct w yJ8_isPresent (ws_ yJ8_isPresent cJ8_isPresent 1 (some FieldType.boolean)) 0 0 0 0 [.ref o] h (fun v h' => v = some (jI (b2i r.isSome)) ∧ h' = h) NoX := by
  unfold isOp at ho
  refine Ct.of (by decide) [some (.ref o)] rfl (Nat.le_of_ble_eq_true rfl) (fun K C E N0 => ?_)
  refine k_aload_n C dJ8_isPresent_0 rfl ?_
  refine k_get C fg_J8_13 dJ8_isPresent_1 (by assumption) (by rfl) ?_
  cases r with
  | none =>
    refine k_ifnullN C dJ8_isPresent_4 (tgt := 11) (by decide) ?_
    refine k_iconst C dJ8_isPresent_11 ?_
    exact k_zret (b := false) C E dJ8_isPresent_12 (by omega) ⟨rfl, rfl⟩
  | some a =>
    refine k_ifnull C dJ8_isPresent_4 ?_
    refine k_iconst C dJ8_isPresent_7 ?_
    refine k_goto C dJ8_isPresent_8 (tgt := 12) (by decide) ?_
    exact k_zret (b := true) C E dJ8_isPresent_12 (by omega) ⟨rfl, rfl⟩
theorem c_opGet {w : Wd} {h : Hp} {o a : Nat} (ho : isOp h o (some a)) : Ct w yJ8_get (ws_ yJ8_get cJ8_get 1 (some (FieldType.object "java/lang/Object"))) 0 0 0 0 [.ref o] h (fun v h' => v = some (.ref a) ∧ h' = h) NoX := by
  unfold isOp at ho
  refine Ct.of (by decide) [some (.ref o)] rfl (Nat.le_of_ble_eq_true rfl) (fun K C E N0 => ?_)
  refine k_aload_n C dJ8_get_0 rfl ?_
  refine k_get C fg_J8_13 dJ8_get_1 (by assumption) (by rfl) ?_
  refine k_ifnonnull C dJ8_get_4 (tgt := 17) (by decide) ?_
  refine k_aload_n C dJ8_get_17 rfl ?_
  refine k_get C fg_J8_13 dJ8_get_18 (by assumption) (by rfl) ?_
  exact k_aret C (Or.inl ⟨_, rfl⟩) E dJ8_get_21 (by omega) ⟨rfl, rfl⟩
theorem c_opEmpty {w : Wd} {h : Hp} : Ct w yJ8_empty (ws_ yJ8_empty cJ8_empty 1 (some (FieldType.object "java/util/Optional"))) 0 0 0 0 [] h (fun v h' => v = some (.ref (w.ad 0)) ∧ h' = h) NoX := by
  refine Ct.of (by decide) [none] rfl (Nat.le_of_ble_eq_true rfl) (fun K C E N0 => ?_)
  refine k_gets (i0 := 0) C (by simp [stAll]) q616 dJ8_empty_0 ?_
  refine k_astore_n C dJ8_empty_3 (Nat.le_of_ble_eq_true rfl) rfl ?_
  refine k_aload_n C dJ8_empty_4 rfl ?_
  exact k_aret C (Or.inl ⟨_, rfl⟩) E dJ8_empty_5 (by omega) ⟨rfl, rfl⟩
theorem c_opInit {w : Wd} {h : Hp} {o a : Nat} {v0 : Value} (ho : h.2 o = some (.inl (15, [v0]))) (hz : w.z0 ≤ o) : Ct w yJ8_init (ws_ yJ8_init cJ8_init 2 none) 1 40 0 0 [.ref o, .ref a] h (fun v h' => v = none ∧ Put h h' o (.inl (15, [.ref a]))) NoX := by
  refine Ct.of (by decide) [some (.ref o), some (.ref a)] rfl (Nat.le_of_ble_eq_true rfl) (fun K C E N0 => ?_)
  refine k_aload_n C dJ8_init_0 rfl ?_
  refine k_objinit C rfl q632 q72 qobj dJ8_init_1 ⟨(Nat.le_of_ble_eq_true rfl), (Nat.le_of_ble_eq_true rfl)⟩ ?_
  refine k_aload_n C dJ8_init_4 rfl ?_
  refine k_aload_n C dJ8_init_5 rfl ?_
  refine k_putF C fg_J8_13 ft_15_0 rfl (fun r hr => by cases hr; rfl) dJ8_init_6 (by assumption) (Or.inr hz) rfl rfl (fun h1 P => ?_)
  exact k_vret C E dJ8_init_9 (by omega) ⟨rfl, P⟩
