/-! ===== doubles that are no NaN; the mean ===== -/
set_option maxRecDepth 100000
def okD : FP.Core.Datum → Prop
  | .nan => False
  | .inf _ => True
  | .fin _ c q => c < 2 ^ 53 ∧ q ≤ 971
theorem n64_of {n : Nat} (h : n < 2 ^ 64) (h2 : n % 2 ^ 63 ≤ 9218868437227405312) : vf_n64 (UInt64.ofNat n) := by
  unfold vf_n64
  rw [UInt64.le_iff_toNat_le, UInt64.toNat_and, UInt64.toNat_ofNat_of_lt' (by simpa using h)]
  show n &&& (2 ^ 63 - 1) ≤ 9218868437227405312
  rw [Nat.and_two_pow_sub_one_eq_mod]
  exact h2
theorem n64_enc {d : FP.Core.Datum} (h : okD d) : vf_n64 (UInt64.ofNat (FP.Core.encode FP.Core.b64 d)) := by
  cases d with
  | nan => exact h.elim
  | inf s => cases s <;> exact n64_of (by decide) (by decide)
  | fin s c q =>
    obtain ⟨h1, h2⟩ := h
    show vf_n64 (UInt64.ofNat (if c < FP.Core.b64.tails then FP.Core.assemble FP.Core.b64 s 0 c else FP.Core.assemble FP.Core.b64 s ((q - FP.Core.b64.qmin).toNat + 1) (c - FP.Core.b64.tails)))
    rw [show FP.Core.b64.tails = 4503599627370496 from by decide]
    split
    · have e : FP.Core.assemble FP.Core.b64 s 0 c = s.toNat * 9223372036854775808 + c := by
        unfold FP.Core.assemble
        rw [show FP.Core.b64.exps = 2048 from by decide, show FP.Core.b64.tails = 4503599627370496 from by decide]
        omega
      rw [e]
      cases s <;> exact n64_of (by simp only [Bool.toNat_false, Bool.toNat_true]; omega) (by simp only [Bool.toNat_false, Bool.toNat_true]; omega)
    · have e : FP.Core.assemble FP.Core.b64 s ((q - FP.Core.b64.qmin).toNat + 1) (c - 4503599627370496) = s.toNat * 9223372036854775808 + ((q - FP.Core.b64.qmin).toNat + 1) * 4503599627370496 + (c - 4503599627370496) := by
        unfold FP.Core.assemble
        rw [show FP.Core.b64.exps = 2048 from by decide, show FP.Core.b64.tails = 4503599627370496 from by decide]
        omega
      have hq : (q - FP.Core.b64.qmin).toNat ≤ 2045 := by
        rw [show FP.Core.b64.qmin = -1074 from by decide]
        omega
      rw [e]
      cases s <;> exact n64_of (by simp only [Bool.toNat_false, Bool.toNat_true]; omega) (by simp only [Bool.toNat_false, Bool.toNat_true]; omega)
theorem okD_bound {s : Bool} {c : Nat} {q : Int} (h : c < 2 ^ 53) : okD (FP.Core.bound FP.Core.b64 s c q) := by
  unfold FP.Core.bound
  split
  · rename_i h2; exact ⟨h, by rw [show FP.Core.b64.qmax = 971 from by decide] at h2; exact h2⟩
  · exact trivial
theorem okD_ratio {s : Bool} {a b : Nat} {e : Int} : okD (FP.Core.roundRatio FP.Core.b64 s a b e) := by
  unfold FP.Core.roundRatio
  split
  · exact ⟨by decide, by decide⟩
  · unfold FP.Core.roundAt FP.Core.settle
    split
    · rename_i h; exact okD_bound h
    · exact okD_bound (by decide)
def finB (x : UInt64) : Bool := match FP.Core.decode FP.Core.b64 x.toNat with
  | .fin _ _ _ => true
  | _ => false
def finNZ (x : UInt64) : Bool := match FP.Core.decode FP.Core.b64 x.toNat with
  | .fin _ c _ => c != 0
  | _ => false
theorem n64_ddiv {x y : UInt64} (hx : finB x = true) (hy : finNZ y = true) : vf_n64 (FP.ddiv x y) := by
  unfold finB at hx
  unfold finNZ at hy
  show vf_n64 (UInt64.ofNat (FP.Core.encode FP.Core.b64 (FP.Core.quotient FP.Core.b64 (FP.Core.decode FP.Core.b64 x.toNat) (FP.Core.decode FP.Core.b64 y.toNat))))
  apply n64_enc
  cases ex : FP.Core.decode FP.Core.b64 x.toNat with
  | nan => rw [ex] at hx; cases hx
  | inf s => rw [ex] at hx; cases hx
  | fin s c q =>
    cases ey : FP.Core.decode FP.Core.b64 y.toNat with
    | nan => rw [ey] at hy; cases hy
    | inf s => rw [ey] at hy; cases hy
    | fin t d r =>
      rw [ey] at hy
      have hd : ¬ d = 0 := by simpa using hy
      show okD (if d = 0 then (if c = 0 then .nan else .inf (s != t)) else FP.Core.roundRatio FP.Core.b64 (s != t) c d (q - r))
      rw [if_neg hd]
      exact okD_ratio
theorem n64_dmul {x y : UInt64} (hx : finB x = true) (hy : finB y = true) : vf_n64 (FP.dmul x y) := by
  unfold finB at hx hy
  show vf_n64 (UInt64.ofNat (FP.Core.encode FP.Core.b64 (FP.Core.round FP.Core.b64 (FP.Core.exactProduct (FP.Core.decode FP.Core.b64 x.toNat) (FP.Core.decode FP.Core.b64 y.toNat)))))
  apply n64_enc
  cases ex : FP.Core.decode FP.Core.b64 x.toNat with
  | nan => rw [ex] at hx; cases hx
  | inf s => rw [ex] at hx; cases hx
  | fin s c q =>
    cases ey : FP.Core.decode FP.Core.b64 y.toNat with
    | nan => rw [ey] at hy; cases hy
    | inf s => rw [ey] at hy; cases hy
    | fin t d r => exact okD_ratio
theorem n64_dadd {x y : UInt64} (hx : finB x = true) (hy : finB y = true) : vf_n64 (FP.dadd x y) := by
  unfold finB at hx hy
  show vf_n64 (UInt64.ofNat (FP.Core.encode FP.Core.b64 (FP.Core.round FP.Core.b64 (FP.Core.exactSum (FP.Core.decode FP.Core.b64 x.toNat) (FP.Core.decode FP.Core.b64 y.toNat)))))
  apply n64_enc
  cases ex : FP.Core.decode FP.Core.b64 x.toNat with
  | nan => rw [ex] at hx; cases hx
  | inf s => rw [ex] at hx; cases hx
  | fin s c q =>
    cases ey : FP.Core.decode FP.Core.b64 y.toNat with
    | nan => rw [ey] at hy; cases hy
    | inf s => rw [ey] at hy; cases hy
    | fin t d r => exact okD_ratio
theorem n64_dsub {x y : UInt64} (hx : finB x = true) (hy : finB y = true) : vf_n64 (FP.dsub x y) := by
  unfold finB at hx hy
  show vf_n64 (UInt64.ofNat (FP.Core.encode FP.Core.b64 (FP.Core.round FP.Core.b64 (FP.Core.exactSum (FP.Core.decode FP.Core.b64 x.toNat) (FP.Core.negate (FP.Core.decode FP.Core.b64 y.toNat))))))
  apply n64_enc
  cases ex : FP.Core.decode FP.Core.b64 x.toNat with
  | nan => rw [ex] at hx; cases hx
  | inf s => rw [ex] at hx; cases hx
  | fin s c q =>
    cases ey : FP.Core.decode FP.Core.b64 y.toNat with
    | nan => rw [ey] at hy; cases hy
    | inf s => rw [ey] at hy; cases hy
    | fin t d r => exact okD_ratio
def allB (p : Nat → Bool) : Nat → Bool
  | 0 => true
  | n + 1 => p n && allB p n
theorem allB_of {p : Nat → Bool} : ∀ {n : Nat}, allB p n = true → ∀ i, i < n → p i = true
  | n + 1, h, i, hi => by
    rw [allB, Bool.and_eq_true] at h
    by_cases e : i = n
    · rw [e]; exact h.1
    · exact allB_of h.2 i (by omega)
theorem i2d_nzA : allB (fun i => finNZ (FP.i2d (Int32.ofInt ((i : Int) + 1)))) 500 = true := by decide +kernel
theorem i2d_nz {z : Int} (h : 1 ≤ z ∧ z ≤ 500) : finNZ (FP.i2d (Int32.ofInt z)) = true := by
  have := allB_of i2d_nzA (z - 1).toNat (by omega)
  rw [show (((z - 1).toNat : Nat) : Int) + 1 = z by omega] at this
  exact this
theorem fin_enc {s : Bool} {c : Nat} {q : Int} (h1 : c < 2 ^ 53) (h2 : q ≤ 1) : finB (UInt64.ofNat (FP.Core.encode FP.Core.b64 (.fin s c q))) = true := by
  have key : ∀ (n : Nat), n < 2 ^ 64 → n / 4503599627370496 % 2048 < 2047 → finB (UInt64.ofNat n) = true := by
    intro n hn he
    unfold finB FP.Core.decode FP.Core.fieldE
    rw [UInt64.toNat_ofNat_of_lt' (by simpa using hn), show FP.Core.b64.exps = 2048 from by decide, show FP.Core.b64.tails = 4503599627370496 from by decide, if_neg (by omega)]
    by_cases e : n / 4503599627370496 % 2048 = 0
    · rw [if_pos e]
    · rw [if_neg e]
  show finB (UInt64.ofNat (if c < FP.Core.b64.tails then FP.Core.assemble FP.Core.b64 s 0 c else FP.Core.assemble FP.Core.b64 s ((q - FP.Core.b64.qmin).toNat + 1) (c - FP.Core.b64.tails))) = true
  rw [show FP.Core.b64.tails = 4503599627370496 from by decide]
  split
  · have e : FP.Core.assemble FP.Core.b64 s 0 c = s.toNat * 9223372036854775808 + c := by
      unfold FP.Core.assemble
      rw [show FP.Core.b64.exps = 2048 from by decide, show FP.Core.b64.tails = 4503599627370496 from by decide]
      omega
    rw [e]
    cases s <;> exact key _ (by simp only [Bool.toNat_false, Bool.toNat_true]; omega) (by simp only [Bool.toNat_false, Bool.toNat_true]; omega)
  · have e : FP.Core.assemble FP.Core.b64 s ((q - FP.Core.b64.qmin).toNat + 1) (c - 4503599627370496) = s.toNat * 9223372036854775808 + ((q - FP.Core.b64.qmin).toNat + 1) * 4503599627370496 + (c - 4503599627370496) := by
      unfold FP.Core.assemble
      rw [show FP.Core.b64.exps = 2048 from by decide, show FP.Core.b64.tails = 4503599627370496 from by decide]
      omega
    have hq : (q - FP.Core.b64.qmin).toNat ≤ 1075 := by
      rw [show FP.Core.b64.qmin = -1074 from by decide]
      omega
    rw [e]
    cases s <;> exact key _ (by simp only [Bool.toNat_false, Bool.toNat_true]; omega) (by simp only [Bool.toNat_false, Bool.toNat_true]; omega)
theorem fin_i2d (a : Int32) : finB (FP.i2d a) = true := by
  show finB (UInt64.ofNat (FP.Core.encode FP.Core.b64 (FP.Core.roundRatio FP.Core.b64 (decide (a.toInt < 0)) a.toInt.natAbs 1 0))) = true
  have h1 := a.toInt_lt
  have h2 := a.le_toInt
  generalize decide (a.toInt < 0) = s
  have hc : a.toInt.natAbs < 2 ^ 32 := by omega
  generalize a.toInt.natAbs = c at hc
  unfold FP.Core.roundRatio
  split
  · exact fin_enc (by decide) (by decide)
  · rename_i hc0
    have hl : c.log2 < 32 := (Nat.log2_lt hc0).mpr hc
    have hq : FP.Core.quantum FP.Core.b64 c 1 0 ≤ 0 := by
      unfold FP.Core.quantum FP.Core.leading
      rw [show FP.Core.b64.qmin = -1074 from by decide, show FP.Core.b64.p = 53 from rfl, show Nat.log2 1 = 0 from by decide]
      dsimp only
      split <;> omega
    generalize FP.Core.quantum FP.Core.b64 c 1 0 = q at hq
    unfold FP.Core.roundAt FP.Core.settle
    split
    · rename_i h
      unfold FP.Core.bound
      rw [if_pos (by rw [show FP.Core.b64.qmax = 971 from by decide]; omega)]
      exact fin_enc h (by omega)
    · unfold FP.Core.bound
      rw [if_pos (by rw [show FP.Core.b64.qmax = 971 from by decide]; omega)]
      exact fin_enc (by decide) (by omega)
def stA (mc : Mch) : Int := if mc.2.1 = some 0 then mc.2.2.1 else 0
def meanC (σ : Sg) : UInt64 := if sumN (fun i => byB 0 (σ.ms i)) σ.n = 0 then FP.dconst0 else FP.ddiv (FP.i2d (Int32.ofInt (sumN (fun i => stA (σ.ms i)) σ.n))) (FP.i2d (Int32.ofInt (sumN (fun i => byB 0 (σ.ms i)) σ.n)))
theorem byB_b (κ : Nat) (mc : Mch) : 0 ≤ byB κ mc ∧ byB κ mc ≤ 1 := by unfold byB; split <;> omega
theorem c_mMeanStop {w : Wd} {h : Hp} {m : Nat} {L : ML} {σ : Sg} {th : Int} {s : Int64} (H : isMo w h m L σ th s) (hσ : SgOk σ) : Ct w yX3_meanStop (ws_ yX3_meanStop cX3_meanStop 5 (some FieldType.double)) 3 81 1 4 [.ref m] h (fun v h' => v = some (.double (meanC σ)) ∧ isMo w h' m L σ 0 s ∧ Upd h h' [m]) NoX := by
  have hm := H.1
  have hn := hσ.1
  unfold meanC
  refine Ct.of (by decide) [some (.ref m), none, none, none, none] rfl (Nat.le_of_ble_eq_true rfl) (fun K C E N0 => ?_)
  refine k_aload_n C dX3_meanStop_0 rfl ?_
  refine k_iconst C dX3_meanStop_1 ?_
  refine k_put C fg_X3_19 ft_2_0 dX3_meanStop_2 (by assumption) rfl rfl rfl (fun h1 P1 => ?_)
  have H1 := H.own P1
  have hm1 := H1.1
  obtain ⟨f0, A0, F0'⟩ := H1.2.1
  have l1 := A0.1
  refine k_iconst C dX3_meanStop_5 ?_
  refine k_istore_n C dX3_meanStop_6 (Nat.le_of_ble_eq_true rfl) rfl ?_
  refine k_iconst C dX3_meanStop_7 ?_
  refine k_istore_n C dX3_meanStop_8 (Nat.le_of_ble_eq_true rfl) rfl ?_
  refine k_aload_n C dX3_meanStop_9 rfl ?_
  refine k_get C fg_X3_10 dX3_meanStop_10 (by assumption) (by rfl) ?_
  refine kx_V C rfl mv_X3_158 dX3_meanStop_13 ((c_iterator l1)) (by assumption) rfl rfl (Nat.le_of_ble_eq_true rfl) ⟨(Nat.le_of_ble_eq_true rfl), (Nat.le_of_ble_eq_true rfl)⟩ (by omega) (fun v h2 hp_ => ?_) (fun _ _ hx => hx.elim)
  obtain ⟨it, rfl, N2⟩ := hp_
  have it0 : h1.2 it = none := N2.1
  refine k_astore_n C dX3_meanStop_16 (Nat.le_of_ble_eq_true rfl) rfl ?_
  have loop : ∀ (d j : Nat) (hh : Hp) (v1 : Value), j + d = σ.n → Ext h1 hh → hh.2 it = some (.inl (16, [jI j, v1, jI σ.n, .ref L.lm])) → Wk w K hh 1 4 17 [some (.ref m), some (jI (sumN (fun i => stA (σ.ms i)) j)), some (jI (sumN (fun i => byB 0 (σ.ms i)) j)), some (.ref it), none] [] := by
    intro d
    induction d with
    | zero =>
      intro j hh v1 hj E0 hit
      have hj' : j = σ.n := by omega
      subst hj'
      have l1 := E0.2 _ _ l1
      have cb := sumN_b (f := fun i => byB 0 (σ.ms i)) (b := 1) (by decide) σ.n (fun i _ => byB_b 0 _)
      have fin : isMo w hh m L σ 0 s ∧ Upd h hh [m] := ⟨H1.ext E0, P1.upd.trans (E0.upd [m]) (fun x hx => Or.inl hx)⟩
      refine k_aload_n C dX3_meanStop_17 rfl ?_
      refine kx_F C rfl mf_X3_162 dX3_meanStop_18 ((c_hasNext (i := σ.n) (n := σ.n) (by omega) hit l1)) (by assumption) rfl rfl (Nat.le_of_ble_eq_true rfl) ⟨(Nat.le_of_ble_eq_true rfl), (Nat.le_of_ble_eq_true rfl)⟩ (by omega) (fun v kz hp_ => ?_) (fun _ _ hx => hx.elim)
      obtain ⟨rfl, rfl⟩ := hp_
      rw [decide_eq_false (Nat.lt_irrefl σ.n)]
      refine k_ifeq_b C dX3_meanStop_23 (tgt := 62) (by decide) (fun _ => ?_) (fun z => by cases z)
      generalize sumN (fun i => stA (σ.ms i)) σ.n = S at *
      generalize sumN (fun i => byB 0 (σ.ms i)) σ.n = N at *
      refine k_iload_n C dX3_meanStop_62 rfl ?_
      refine k_if_ne C dX3_meanStop_63 (tgt := 70) (by decide) (by omega) (fun g1 => ?_) (fun g2 => ?_)
      · rw [if_neg g1] at E
        refine k_iload_n C dX3_meanStop_70 rfl ?_
        refine k_i2d C dX3_meanStop_71 ?_
        refine k_iload_n C dX3_meanStop_72 rfl ?_
        refine k_i2d C dX3_meanStop_73 ?_
        refine k_ddiv C dX3_meanStop_74 (n64_ddiv (fin_i2d _) (i2d_nz (by omega))) ?_
        exact k_dret C E dX3_meanStop_75 (by omega) ⟨rfl, fin⟩
      · rw [if_pos g2] at E
        refine k_dconst0 C dX3_meanStop_66 ?_
        refine k_goto C dX3_meanStop_67 (tgt := 75) (by decide) ?_
        exact k_dret C E dX3_meanStop_75 (by omega) ⟨rfl, fin⟩
    | succ d ih =>
      intro j hh v1 hj E0 hit
      have l1 := E0.2 _ _ l1
      have mok := hσ.2.2.1 j (by omega)
      have kb := kind_b mok
      have bk := byB_k (σ.ms j) 0
      refine k_aload_n C dX3_meanStop_17 rfl ?_
      refine kx_F C rfl mf_X3_162 dX3_meanStop_18 ((c_hasNext (i := j) (n := σ.n) (by omega) hit l1)) (by assumption) rfl rfl (Nat.le_of_ble_eq_true rfl) ⟨(Nat.le_of_ble_eq_true rfl), (Nat.le_of_ble_eq_true rfl)⟩ (by omega) (fun v kz hp_ => ?_) (fun _ _ hx => hx.elim)
      obtain ⟨rfl, rfl⟩ := hp_
      rw [decide_eq_true (show j < σ.n by omega)]
      refine k_ifeq_b C dX3_meanStop_23 (tgt := 62) (by decide) (fun z => by cases z) (fun _ => ?_)
      refine k_aload_n C dX3_meanStop_26 rfl ?_
      refine kx_F C rfl mf_X3_167 dX3_meanStop_27 ((c_next (A0.ext E0) (i := j) (by omega) (F0' j (by omega)) hit)) (by assumption) rfl rfl (Nat.le_of_ble_eq_true rfl) ⟨(Nat.le_of_ble_eq_true rfl), (Nat.le_of_ble_eq_true rfl)⟩ (by omega) (fun v g1 hp_ => ?_) (fun _ _ hx => hx.elim)
      obtain ⟨rfl, P2⟩ := hp_
      have E1 : Ext h1 g1 := P2.upd.ext0 E0 (by simpa using it0)
      have M := (H1.ext E1).2.2.2.1 j (by omega)
      have M1 := M.1
      have e1 : sumN (fun i => stA (σ.ms i)) (j + 1) = sumN (fun i => stA (σ.ms i)) j + stA (σ.ms j) := rfl
      have e2 : sumN (fun i => byB 0 (σ.ms i)) (j + 1) = sumN (fun i => byB 0 (σ.ms i)) j + byB 0 (σ.ms j) := rfl
      have ih' := ih (j + 1) g1 _ (by omega) E1 P2.2.1
      refine k_castO C ck_X3_35_5 dX3_meanStop_32 (by assumption) ?_
      refine k_astore C dX3_meanStop_35 (Nat.le_of_ble_eq_true rfl) rfl ?_
      refine k_aload C dX3_meanStop_37 rfl ?_
      refine k_getN C fn_X3_175 dX3_meanStop_39 (by assumption) (by rfl) ?_
      refine k_if_eq C dX3_meanStop_42 (tgt := 48) (by decide) (by omega) (fun g3 => ?_) (fun g4 => ?_)
      · rw [if_pos (show kindN (σ.ms j) = ((0 : Nat) : Int) from g3)] at bk
        have sk : stA (σ.ms j) = (σ.ms j).2.2.1 := by
          unfold stA
          unfold byB at bk
          split at bk
          · rename_i z; rw [if_pos z]
          · cases bk
        rw [bk] at e2
        rw [sk] at e1
        rw [e1, e2] at ih'
        refine k_iload_n C dX3_meanStop_48 rfl ?_
        refine k_aload C dX3_meanStop_49 rfl ?_
        refine k_getN C fn_X3_178 dX3_meanStop_51 (by assumption) (by rfl) ?_
        refine k_iadd C dX3_meanStop_54 ?_
        refine k_istore_n C dX3_meanStop_55 (Nat.le_of_ble_eq_true rfl) rfl ?_
        refine k_iinc C dX3_meanStop_56 rfl rfl ?_
        refine k_goto C dX3_meanStop_59 (tgt := 17) (by decide) ?_
        exact Wk.sub (by repeat (first | exact trivial | apply Lle.so | apply Lle.no)) ih'
      · rw [if_neg (show ¬ kindN (σ.ms j) = ((0 : Nat) : Int) from g4)] at bk
        have sk : stA (σ.ms j) = 0 := by
          unfold stA
          unfold byB at bk
          split at bk
          · cases bk
          · rename_i z; rw [if_neg z]
        rw [bk, Int.add_zero] at e2
        rw [sk, Int.add_zero] at e1
        rw [e1, e2] at ih'
        refine k_goto C dX3_meanStop_45 (tgt := 17) (by decide) ?_
        exact Wk.sub (by repeat (first | exact trivial | apply Lle.so | apply Lle.no)) ih'
  exact Wk.sub (by repeat (first | exact trivial | apply Lle.so | apply Lle.no)) (loop σ.n 0 h2 _ (by omega) N2.2.2.1 N2.2.1)
theorem c_meanStopX {w : Wd} {h : Hp} {x : Nat} {X : XL} {σ : Sg} (H : isX w h x X σ) (hσ : SgOk σ) : Ct w yX1_meanStop (ws_ yX1_meanStop cX1_meanStop 5 (some FieldType.double)) 3 64 0 0 [.ref x] h (fun v h' => v = some (.double (meanC σ)) ∧ h' = h) NoX := by
  have hX := H.1
  have hn := hσ.1
  obtain ⟨f, A, F⟩ := H.at
  have l1 := A.1
  unfold meanC
  refine Ct.of (by decide) [some (.ref x), none, none, none, none] rfl (Nat.le_of_ble_eq_true rfl) (fun K C E N0 => ?_)
  have loop : ∀ (d i : Nat), i + d = σ.n → Wk w K h 0 0 6 [some (.ref x), some (jI (sumN (fun i => stA (σ.ms i)) i)), some (jI (sumN (fun i => byB 0 (σ.ms i)) i)), some (jI (i : Nat)), none] [] := by
    intro d
    induction d with
    | zero =>
      intro i hi
      have hi' : i = σ.n := by omega
      subst hi'
      have cb := sumN_b (f := fun i => byB 0 (σ.ms i)) (b := 1) (by decide) σ.n (fun i _ => byB_b 0 _)
      refine k_iload_n C dX1_meanStop_6 rfl ?_
      refine k_aload_n C dX1_meanStop_7 rfl ?_
      refine k_get C fg_X1_130 dX1_meanStop_8 (by assumption) (by rfl) ?_
      refine kx_F C rfl mf_X1_56 dX1_meanStop_11 ((c_size l1)) (by assumption) rfl rfl (Nat.le_of_ble_eq_true rfl) ⟨(Nat.le_of_ble_eq_true rfl), (Nat.le_of_ble_eq_true rfl)⟩ (by omega) (fun v kk hp_ => ?_) (fun _ _ hx => hx.elim)
      obtain ⟨rfl, rfl⟩ := hp_
      refine k_icmp_ge C dX1_meanStop_16 (tgt := 86) (by decide) (by omega) (fun g1 => ?_) (fun g2 => ?_)
      · generalize sumN (fun i => stA (σ.ms i)) σ.n = S at *
        generalize sumN (fun i => byB 0 (σ.ms i)) σ.n = N at *
        refine k_iload_n C dX1_meanStop_86 rfl ?_
        refine k_if_ne C dX1_meanStop_87 (tgt := 94) (by decide) (by omega) (fun g3 => ?_) (fun g4 => ?_)
        · rw [if_neg g3] at E
          refine k_iload_n C dX1_meanStop_94 rfl ?_
          refine k_i2d C dX1_meanStop_95 ?_
          refine k_iload_n C dX1_meanStop_96 rfl ?_
          refine k_i2d C dX1_meanStop_97 ?_
          refine k_ddiv C dX1_meanStop_98 (n64_ddiv (fin_i2d _) (i2d_nz (by omega))) ?_
          exact k_dret C E dX1_meanStop_99 (by omega) ⟨rfl, rfl⟩
        · rw [if_pos g4] at E
          refine k_dconst0 C dX1_meanStop_90 ?_
          refine k_goto C dX1_meanStop_91 (tgt := 99) (by decide) ?_
          exact k_dret C E dX1_meanStop_99 (by omega) ⟨rfl, rfl⟩
      · omega
    | succ d ih =>
      intro i hi
      obtain ⟨fi, k, hk⟩ := F i (by omega)
      have M := H.2.2.2.2.1 i (by omega)
      have hok := hσ.2.2.1 i (by omega)
      have e1 : sumN (fun i => stA (σ.ms i)) (i + 1) = sumN (fun i => stA (σ.ms i)) i + stA (σ.ms i) := rfl
      have e2 : sumN (fun i => byB 0 (σ.ms i)) (i + 1) = sumN (fun i => byB 0 (σ.ms i)) i + byB 0 (σ.ms i) := rfl
      have ih' := ih (i + 1) (by omega)
      refine k_iload_n C dX1_meanStop_6 rfl ?_
      refine k_aload_n C dX1_meanStop_7 rfl ?_
      refine k_get C fg_X1_130 dX1_meanStop_8 (by assumption) (by rfl) ?_
      refine kx_F C rfl mf_X1_56 dX1_meanStop_11 ((c_size l1)) (by assumption) rfl rfl (Nat.le_of_ble_eq_true rfl) ⟨(Nat.le_of_ble_eq_true rfl), (Nat.le_of_ble_eq_true rfl)⟩ (by omega) (fun v kk hp_ => ?_) (fun _ _ hx => hx.elim)
      obtain ⟨rfl, rfl⟩ := hp_
      refine k_icmp_ge C dX1_meanStop_16 (tgt := 86) (by decide) (by omega) (fun g1 => ?_) (fun g2 => ?_)
      · omega
      · refine k_aload_n C dX1_meanStop_19 rfl ?_
        refine k_get C fg_X1_130 dX1_meanStop_20 (by assumption) (by rfl) ?_
        refine k_iload_n C dX1_meanStop_23 rfl ?_
        refine kx_F C rfl mf_X1_60 dX1_meanStop_24 ((c_get A (by omega) fi)) (by assumption) rfl rfl (Nat.le_of_ble_eq_true rfl) ⟨(Nat.le_of_ble_eq_true rfl), (Nat.le_of_ble_eq_true rfl)⟩ (by omega) (fun v kk hp_ => ?_) (fun _ _ hx => hx.elim)
        obtain ⟨rfl, rfl⟩ := hp_
        refine k_castO C ck_X1_160_3 dX1_meanStop_29 (by assumption) ?_
        refine k_astore C dX1_meanStop_32 (Nat.le_of_ble_eq_true rfl) rfl ?_
        refine k_iload_n C dX1_meanStop_34 rfl ?_
        refine k_aload C dX1_meanStop_35 rfl ?_
        refine k_gets (i0 := 1) C (by simp [stAll]) q163 dX1_meanStop_37 ?_
        refine kx_V C rfl mv_X1_290 dX1_meanStop_40 ((c_isDecidedBy (j := 0) M hok (by decide))) (by assumption) rfl rfl (Nat.le_of_ble_eq_true rfl) ⟨(Nat.le_of_ble_eq_true rfl), (Nat.le_of_ble_eq_true rfl)⟩ (by omega) (fun v kk hp_ => ?_) (fun _ _ hx => hx.elim)
        obtain ⟨rfl, rfl⟩ := hp_
        refine k_ifeq_b C dX1_meanStop_43 (tgt := 54) (by decide) (fun g3 => ?_) (fun g4 => ?_)
        · have z := of_decide_eq_false g3
          rw [show stA (σ.ms i) = 0 from if_neg z] at e1
          rw [show byB 0 (σ.ms i) = 0 from if_neg z] at e2
          rw [e1, e2] at ih'
          refine k_iconst C dX1_meanStop_54 ?_
          refine k_iadd C dX1_meanStop_55 ?_
          refine k_istore_n C dX1_meanStop_56 (Nat.le_of_ble_eq_true rfl) rfl ?_
          refine k_iload_n C dX1_meanStop_57 rfl ?_
          refine k_aload C dX1_meanStop_58 rfl ?_
          refine k_gets (i0 := 1) C (by simp [stAll]) q163 dX1_meanStop_60 ?_
          refine kx_V C rfl mv_X1_290 dX1_meanStop_63 ((c_isDecidedBy (j := 0) M hok (by decide))) (by assumption) rfl rfl (Nat.le_of_ble_eq_true rfl) ⟨(Nat.le_of_ble_eq_true rfl), (Nat.le_of_ble_eq_true rfl)⟩ (by omega) (fun v kk hp_ => ?_) (fun _ _ hx => hx.elim)
          obtain ⟨rfl, rfl⟩ := hp_
          refine k_ifeq_b C dX1_meanStop_66 (tgt := 77) (by decide) (fun g5 => ?_) (fun g6 => ?_)
          · refine k_iconst C dX1_meanStop_77 ?_
            refine k_iadd C dX1_meanStop_78 ?_
            refine k_istore_n C dX1_meanStop_79 (Nat.le_of_ble_eq_true rfl) rfl ?_
            refine k_iinc C dX1_meanStop_80 rfl rfl ?_
            refine k_goto C dX1_meanStop_83 (tgt := 6) (by decide) ?_
            exact Wk.sub (by repeat (first | exact trivial | apply Lle.so | apply Lle.no)) ih'
          · exact absurd (of_decide_eq_true g6) z
        · have z := of_decide_eq_true g4
          rw [show stA (σ.ms i) = (σ.ms i).2.2.1 from if_pos z] at e1
          rw [show byB 0 (σ.ms i) = 1 from if_pos z] at e2
          rw [e1, e2] at ih'
          refine k_aload C dX1_meanStop_46 rfl ?_
          refine k_getN C fn_X1_334 dX1_meanStop_48 (by assumption) (by rfl) ?_
          refine k_goto C dX1_meanStop_51 (tgt := 55) (by decide) ?_
          refine k_iadd C dX1_meanStop_55 ?_
          refine k_istore_n C dX1_meanStop_56 (Nat.le_of_ble_eq_true rfl) rfl ?_
          refine k_iload_n C dX1_meanStop_57 rfl ?_
          refine k_aload C dX1_meanStop_58 rfl ?_
          refine k_gets (i0 := 1) C (by simp [stAll]) q163 dX1_meanStop_60 ?_
          refine kx_V C rfl mv_X1_290 dX1_meanStop_63 ((c_isDecidedBy (j := 0) M hok (by decide))) (by assumption) rfl rfl (Nat.le_of_ble_eq_true rfl) ⟨(Nat.le_of_ble_eq_true rfl), (Nat.le_of_ble_eq_true rfl)⟩ (by omega) (fun v kk hp_ => ?_) (fun _ _ hx => hx.elim)
          obtain ⟨rfl, rfl⟩ := hp_
          refine k_ifeq_b C dX1_meanStop_66 (tgt := 77) (by decide) (fun g5 => ?_) (fun g6 => ?_)
          · exact absurd z (of_decide_eq_false g5)
          · refine k_aload C dX1_meanStop_69 rfl ?_
            refine k_count (Or.inl ⟨rfl, rfl⟩) C rfl dX1_meanStop_71 hk (Nat.le_of_ble_eq_true rfl) ⟨Nat.le_of_ble_eq_true rfl, Nat.le_of_ble_eq_true rfl⟩ (by omega) ?_
            refine k_goto C dX1_meanStop_74 (tgt := 78) (by decide) ?_
            refine k_iadd C dX1_meanStop_78 ?_
            refine k_istore_n C dX1_meanStop_79 (Nat.le_of_ble_eq_true rfl) rfl ?_
            refine k_iinc C dX1_meanStop_80 rfl rfl ?_
            refine k_goto C dX1_meanStop_83 (tgt := 6) (by decide) ?_
            exact Wk.sub (by repeat (first | exact trivial | apply Lle.so | apply Lle.no)) ih'
  refine k_iconst C dX1_meanStop_0 ?_
  refine k_istore_n C dX1_meanStop_1 (Nat.le_of_ble_eq_true rfl) rfl ?_
  refine k_iconst C dX1_meanStop_2 ?_
  refine k_istore_n C dX1_meanStop_3 (Nat.le_of_ble_eq_true rfl) rfl ?_
  refine k_iconst C dX1_meanStop_4 ?_
  refine k_istore_n C dX1_meanStop_5 (Nat.le_of_ble_eq_true rfl) rfl ?_
  exact Wk.sub (by repeat (first | exact trivial | apply Lle.so | apply Lle.no)) (loop σ.n 0 (by omega))
