/-! ===== eighths ===== -/
set_option maxRecDepth 100000
def eiF (o w : Nat) : UInt32 := FP.fdiv (FP.fmul 1090519040 (FP.i2f (Int32.ofInt (o : Int)))) (FP.i2f (Int32.ofInt (w : Int)))
def eiB (o w : Nat) : Bool := decide ((FP.f2l (eiF o w)).toInt32 = Int32.ofInt (8 * (o : Int) / (w : Int))) && (decide (FP.fmul 1090519040 (FP.i2f (Int32.ofInt (o : Int))) &&& 0x7fffffff ≤ 0x7f800000) && decide (eiF o w &&& 0x7fffffff ≤ 0x7f800000))
theorem ei_all (o w : Nat) (hw : 1 ≤ w ∧ w ≤ 501) (ho : o ≤ w) : eiB o w = true := by
  sorry
def eighC (c : Cf) : Int := 8 * onesC c / (c.gr - c.le + 1)
theorem onesC_w {T : Tb} {c : Cf} (H : CfOk T c) : 0 ≤ onesC c ∧ onesC c ≤ c.gr - c.le + 1 := by
  obtain ⟨-, ⟨h3, h4, h5, h6, h7, h8⟩, h9, h10⟩ := H
  have := sumF_b h9 c.le (c.gr - c.le + 1).toNat
  unfold onesC
  omega
/-- what a walk has seen lies in so many places -/
def Slim (c : Cf) : Prop := c.gr - c.le ≤ 500
theorem c_eighths {w : Wd} {h : Hp} {q t tp R : Nat} {T : Tb} {c : Cf} (hR : R < 1000) (H : isWk h q t tp R c) (hc : CfOk T c) (hn : c.n ≤ R) (hs : Slim c) : Ct w yX1_eighths (ws_ yX1_eighths cX1_eighths 2 (some FieldType.int)) 1 25 0 0 [.ref q] h (fun v h' => v = some (jI (eighC c)) ∧ h' = h) NoX := by
  have H1 := H.1
  obtain ⟨o0, o1⟩ := onesC_w hc
  obtain ⟨-, ⟨h3, h4, h5, h6, h7, h8⟩, h9, h10⟩ := id hc
  unfold Slim at hs
  have e1 : ((onesC c).toNat : Int) = onesC c := by omega
  have e2 : ((c.gr - c.le + 1).toNat : Int) = c.gr - c.le + 1 := by omega
  have ei := ei_all (onesC c).toNat (c.gr - c.le + 1).toNat (by omega) (by omega)
  unfold eiB eiF at ei
  rw [e1, e2, Bool.and_eq_true, Bool.and_eq_true, decide_eq_true_iff, decide_eq_true_iff, decide_eq_true_iff] at ei
  refine Ct.of (by decide) [some (.ref q), none] rfl (Nat.le_of_ble_eq_true rfl) (fun K C E N0 => ?_)
  refine k_ldcwf C q446 dX1_eighths_0 ?_
  refine k_aload_n C dX1_eighths_3 rfl ?_
  refine kx_V C rfl mv_X1_328 dX1_eighths_4 ((c_ones hR H hc hn)) (by assumption) rfl rfl (Nat.le_of_ble_eq_true rfl) ⟨(Nat.le_of_ble_eq_true rfl), (Nat.le_of_ble_eq_true rfl)⟩ (by omega) (fun v kk hp_ => ?_) (fun _ _ hx => hx.elim)
  obtain ⟨rfl, rfl⟩ := hp_
  refine k_i2f C dX1_eighths_7 ?_
  refine k_fmul C dX1_eighths_8 ei.2.1 ?_
  refine k_aload_n C dX1_eighths_9 rfl ?_
  refine k_getN C fn_X1_349 dX1_eighths_10 (by assumption) (by rfl) ?_
  refine k_aload_n C dX1_eighths_13 rfl ?_
  refine k_getN C fn_X1_352 dX1_eighths_14 (by assumption) (by rfl) ?_
  refine k_isub C dX1_eighths_17 ?_
  refine k_iconst C dX1_eighths_18 ?_
  refine k_iadd C dX1_eighths_19 ?_
  refine k_i2f C dX1_eighths_20 ?_
  refine k_fdiv C dX1_eighths_21 ei.2.2 ?_
  refine k_fstore_n C dX1_eighths_22 (Nat.le_of_ble_eq_true rfl) rfl ?_
  refine k_fload_n C dX1_eighths_23 rfl ?_
  refine k_f2l C dX1_eighths_24 ?_
  refine k_l2i C dX1_eighths_25 ei.1 ?_
  exact k_iret C E dX1_eighths_26 (by omega) ⟨rfl, rfl⟩
/-- what is told of a walk: seven numbers, and the eighths -/
def atC (c : Cf) (what : Int) : Int := if what = 7 then eighC c else toldC c what
theorem c_atNow {w : Wd} {h : Hp} {q t tp R : Nat} {T : Tb} {c : Cf} {what : Int} (hw : 0 ≤ what ∧ what ≤ 7) (hR : R < 1000) (H : isWk h q t tp R c) (hc : CfOk T c) (hn : c.n ≤ R) (hs : Slim c) : Ct w yX1_atNow (ws_ yX1_atNow cX1_atNow 2 (some FieldType.int)) 3 64 0 0 [.ref q, jI what] h (fun v h' => v = some (jI (atC c what)) ∧ h' = h) NoX := by
  have H1 := H.1
  refine Ct.of (by decide) [some (.ref q), some (jI what)] rfl (Nat.le_of_ble_eq_true rfl) (fun K C E N0 => ?_)
  refine k_iload_n C dX1_atNow_0 rfl ?_
  refine k_bipush C dX1_atNow_1 (by decide) ?_
  refine k_icmp_ne C dX1_atNow_3 (tgt := 13) (by decide) (by omega) (fun g1 => ?_) (fun g2 => ?_)
  · refine k_aload_n C dX1_atNow_13 rfl ?_
    refine k_iload_n C dX1_atNow_14 rfl ?_
    refine kx_V C rfl mv_X1_358 dX1_atNow_15 ((c_told (by omega) hR H hc hn)) (by assumption) rfl rfl (Nat.le_of_ble_eq_true rfl) ⟨(Nat.le_of_ble_eq_true rfl), (Nat.le_of_ble_eq_true rfl)⟩ (by omega) (fun v kk hp_ => ?_) (fun _ _ hx => hx.elim)
    obtain ⟨rfl, rfl⟩ := hp_
    rw [show toldC c what = atC c what by unfold atC; rw [if_neg g1]]
    exact k_iret C E dX1_atNow_18 (by omega) ⟨rfl, rfl⟩
  · refine k_aload_n C dX1_atNow_6 rfl ?_
    refine kx_S C rfl ms_X1_355 dX1_atNow_7 ((c_eighths hR H hc hn hs)) rfl rfl (Nat.le_of_ble_eq_true rfl) ⟨(Nat.le_of_ble_eq_true rfl), (Nat.le_of_ble_eq_true rfl)⟩ (by omega) (fun v kk hp_ => ?_) (fun _ _ hx => hx.elim)
    obtain ⟨rfl, rfl⟩ := hp_
    refine k_goto C dX1_atNow_10 (tgt := 18) (by decide) ?_
    rw [show eighC c = atC c what by unfold atC; rw [if_pos g2]]
    exact k_iret C E dX1_atNow_18 (by omega) ⟨rfl, rfl⟩
theorem slim_adv {T : Tb} {c : Cf} {r : Ru} (hT : TbOk T) (hc : CfOk T c) (hr : nxt T c = some r) (h : c.gr - c.le ≤ c.n) : (adv c r).gr - (adv c r).le ≤ (adv c r).n := by
  obtain ⟨u1, u2, u3, u4⟩ := hc.rule hT hr
  obtain ⟨-, ⟨h3, h4, h5, h6, h7, h8⟩, -⟩ := hc
  obtain ⟨tp, st, pl, le, gr, n⟩ := c
  simp only [Cf.st, Cf.le, Cf.gr, Cf.pl, Cf.n, Cf.tp, adv] at *
  omega
theorem slim_run {T : Tb} (hT : TbOk T) : ∀ (n : Nat) (c : Cf), CfOk T c → c.gr - c.le ≤ c.n → (runN T n c).gr - (runN T n c).le ≤ (runN T n c).n
  | 0, c, _, h => h
  | n + 1, c, hc, h => by
    cases hr : nxt T c with
    | none => rw [runN_stop hr]; exact h
    | some r => rw [runN_go hr]; exact slim_run hT n _ (adv_ok hT hc hr) (slim_adv hT hc hr h)
theorem slim_c0 {T : Tb} (hT : TbOk T) {n : Nat} (hn : n ≤ 500) : Slim (runN T n c0) := by
  have h1 := slim_run hT n c0 c0_ok (Int.le_refl _)
  have h2 := (runN_c0 hT n).2
  unfold Slim
  omega
