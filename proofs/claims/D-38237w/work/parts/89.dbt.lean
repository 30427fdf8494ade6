/-! ===== doubt ===== -/
set_option maxRecDepth 100000
theorem kindN_iff (mc : Mch) (κ : Nat) : mc.2.1 = some κ ↔ kindN mc = (κ : Int) := by
  have := byB_k mc κ
  unfold byB at this
  constructor
  · intro h
    rw [if_pos h] at this
    split at this
    · assumption
    · cases this
  · intro h
    rw [if_pos h] at this
    split at this
    · assumption
    · cases this
/-- behind the first j machines -/
def dbtC (κ : Int) (σ : Sg) (j : Nat) : Sg := cntG (dbtS κ σ j) σ.tk σ.rf (σ.bk + dbtN κ σ j)
theorem dbtC_ok {κ : Int} {σ : Sg} (hσ : SgOk σ) (hb : σ.bk ≤ 90000) (j : Nat) (hj : j ≤ σ.n) : SgOk (dbtC κ σ j) := by
  have h1 := hσ.1
  have h2 := dbtN_le κ σ j
  refine ⟨hσ.1, hσ.2.1, fun i hi => ?_, hσ.2.2.2.1, hσ.2.2.2.2.1, hσ.2.2.2.2.2.1, ?_⟩
  · have m := hσ.2.2.1 i hi
    show MchOk (if i < j then dbtM κ (σ.ms i) else σ.ms i)
    split
    · unfold dbtM
      split
      · exact ⟨m.1, fun κ e => (by cases e), by dsimp only; omega⟩
      · exact m
    · exact m
  · show σ.bk + dbtN κ σ j ≤ 100000
    omega
theorem dbtC_miss {κ : Int} {σ : Sg} {j : Nat} (h : kindN (σ.ms j) ≠ κ) : dbtC κ σ (j + 1) = dbtC κ σ j := by
  unfold dbtC
  rw [dbtS_miss h, show dbtN κ σ (j + 1) = dbtN κ σ j by show dbtN κ σ j + (if kindN (σ.ms j) = κ then 1 else 0) = _; rw [if_neg h]; rfl]
theorem dbtC_hit {κ : Int} {σ : Sg} {j : Nat} (h : kindN (σ.ms j) = κ) : dbtC κ σ (j + 1) = putG (dbtC κ σ j) j ((σ.ms j).1, none, -1, -1) σ.tk σ.rf (σ.bk + dbtN κ σ j + 1) := by
  unfold dbtC
  rw [dbtS_hit h, show dbtN κ σ (j + 1) = dbtN κ σ j + 1 by show dbtN κ σ j + (if kindN (σ.ms j) = κ then 1 else 0) = _; rw [if_pos h]]
  rfl
theorem c_doubtX {w : Wd} {h : Hp} {x : Nat} {X : XL} {σ : Sg} {κ : Int} (H : isX w h x X σ) (hsep : sepX X σ.n σ.k) (hσ : SgOk σ) (hb : σ.bk ≤ 90000) (hκ : i32 κ) : Ct w yX1_doubt (ws_ yX1_doubt cX1_doubt 5 (some FieldType.int)) 11 262 1 6 [.ref x, jI κ] h (fun r h' => dbtK κ = 0 ∧ r = some (jI (dbtN κ σ σ.n : Nat)) ∧ stepX w h h' x X σ (dbtG κ σ)) (fun E h' => exOf [sIAE] (dbtK κ) E ∧ Ext h h') := by
  have hX := H.1
  have hn := hσ.1
  unfold dbtK
  refine Ct.of (by decide) [some (.ref x), some (jI κ), none, none, none] rfl (Nat.le_of_ble_eq_true rfl) (fun K C E N0 => ?_)
  refine k_iload_n C dX1_doubt_0 rfl ?_
  refine kx_S C rfl ms_X1_269 dX1_doubt_1 ((c_kindOf hκ)) rfl rfl (Nat.le_of_ble_eq_true rfl) ⟨(Nat.le_of_ble_eq_true rfl), (Nat.le_of_ble_eq_true rfl)⟩ (by omega) (fun r kk hp_ => ?_) (fun E1 h1 hx => x_pass C E N0 (by omega) ⟨by rw [if_neg hx.1, hx.2.1]; exact ex1, hx.2.2⟩)
  obtain ⟨hin, rfl, rfl⟩ := hp_
  rw [if_pos hin] at E
  have hcast : ((κ.toNat : Nat) : Int) = κ := by omega
  have loop : ∀ (d j : Nat) (g : Hp), j + d = σ.n → isX w g x X (dbtC κ σ j) → UpdP kk g (ownX X σ.n) → Wk w K g 1 6 10 [some (.ref x), some (jI κ), some (.ref (w.ad (κ.toNat + 1))), some (jI (dbtN κ σ j : Nat)), some (jI (j : Nat))] [] := by
    intro d
    induction d with
    | zero =>
      intro j g hj Hg Ug
      have hj' : j = σ.n := by omega
      subst hj'
      have X1 := Hg.1
      obtain ⟨f, A, F⟩ := Hg.2.1
      have l1 : g.2 X.lm = some (.inl (14, [jI (σ.n : Nat), .ref X.am, jI (σ.n : Nat)])) := A.1
      refine k_iload C dX1_doubt_10 rfl ?_
      refine k_aload_n C dX1_doubt_12 rfl ?_
      refine k_get C fg_X1_130 dX1_doubt_13 (by assumption) (by rfl) ?_
      refine kx_F C rfl mf_X1_56 dX1_doubt_16 ((c_size l1)) (by assumption) rfl rfl (Nat.le_of_ble_eq_true rfl) ⟨(Nat.le_of_ble_eq_true rfl), (Nat.le_of_ble_eq_true rfl)⟩ (by omega) (fun r k2 hp_ => ?_) (fun _ _ hx => hx.elim)
      obtain ⟨rfl, rfl⟩ := hp_
      refine k_icmp_ge C dX1_doubt_21 (tgt := 80) (by decide) (by omega) (fun g1 => ?_) (fun g2 => ?_)
      · refine k_iload_n C dX1_doubt_80 rfl ?_
        exact k_iret C E dX1_doubt_81 (by omega) ⟨rfl, rfl, X, Hg, hsep, Ug, fun _ hq => Or.inl hq⟩
      · omega
    | succ d ih =>
      intro j g hj Hg Ug
      have X1 := Hg.1
      obtain ⟨f, A, F⟩ := Hg.2.1
      have l1 : g.2 X.lm = some (.inl (14, [jI (σ.n : Nat), .ref X.am, jI (σ.n : Nat)])) := A.1
      have A' : isAL w g X.lm X.am σ.n X.cm f := A
      have fi : f (j : Int) = some (X.A j).1 := F j (by show j < σ.n; omega)
      have M : isMc w g (X.A j).1 (X.A j).2.1 (X.A j).2.2.1 (X.A j).2.2.2 (σ.ms j) := by
        have := Hg.2.2.2.2.1 j (by show j < σ.n; omega)
        rw [show (dbtC κ σ j).ms j = σ.ms j from dbtS_at κ σ j] at this
        exact this
      obtain ⟨⟨k0, ea, -⟩, -⟩ := id M
      have mok := hσ.2.2.1 j (by omega)
      have ki := kindN_iff (σ.ms j) κ.toNat
      rw [hcast] at ki
      refine k_iload C dX1_doubt_10 rfl ?_
      refine k_aload_n C dX1_doubt_12 rfl ?_
      refine k_get C fg_X1_130 dX1_doubt_13 (by assumption) (by rfl) ?_
      refine kx_F C rfl mf_X1_56 dX1_doubt_16 ((c_size l1)) (by assumption) rfl rfl (Nat.le_of_ble_eq_true rfl) ⟨(Nat.le_of_ble_eq_true rfl), (Nat.le_of_ble_eq_true rfl)⟩ (by omega) (fun r k2 hp_ => ?_) (fun _ _ hx => hx.elim)
      obtain ⟨rfl, rfl⟩ := hp_
      refine k_icmp_ge C dX1_doubt_21 (tgt := 80) (by decide) (by omega) (fun g1 => ?_) (fun g2 => ?_)
      · omega
      · refine k_iload_n C dX1_doubt_24 rfl ?_
        refine k_aload_n C dX1_doubt_25 rfl ?_
        refine k_get C fg_X1_130 dX1_doubt_26 (by assumption) (by rfl) ?_
        refine k_iload C dX1_doubt_29 rfl ?_
        refine kx_F C rfl mf_X1_60 dX1_doubt_31 ((c_get A' (by omega) fi)) (by assumption) rfl rfl (Nat.le_of_ble_eq_true rfl) ⟨(Nat.le_of_ble_eq_true rfl), (Nat.le_of_ble_eq_true rfl)⟩ (by omega) (fun r k3 hp_ => ?_) (fun _ _ hx => hx.elim)
        obtain ⟨rfl, rfl⟩ := hp_
        refine k_castO C ck_X1_160_3 dX1_doubt_36 (by assumption) ?_
        refine k_aload_n C dX1_doubt_39 rfl ?_
        refine kx_V C rfl mv_X1_290 dX1_doubt_40 ((c_isDecidedBy (j := κ.toNat) M mok (by omega))) (by assumption) rfl rfl (Nat.le_of_ble_eq_true rfl) ⟨(Nat.le_of_ble_eq_true rfl), (Nat.le_of_ble_eq_true rfl)⟩ (by omega) (fun r k4 hp_ => ?_) (fun _ _ hx => hx.elim)
        obtain ⟨rfl, rfl⟩ := hp_
        refine k_ifeq_b C dX1_doubt_43 (tgt := 71) (by decide) (fun g3 => ?_) (fun g4 => ?_)
        · have ne : kindN (σ.ms j) ≠ κ := fun z => (of_decide_eq_false g3) (ki.mpr z)
          have r := ih (j + 1) k4 (by omega) (by rw [dbtC_miss ne]; exact Hg) Ug
          rw [show ((dbtN κ σ (j + 1) : Nat) : Int) = (dbtN κ σ j : Nat) + 0 by show ((dbtN κ σ j + (if kindN (σ.ms j) = κ then 1 else 0) : Nat) : Int) = _; rw [if_neg ne]; omega] at r
          refine k_iconst C dX1_doubt_71 ?_
          refine k_iadd C dX1_doubt_72 ?_
          refine k_istore_n C dX1_doubt_73 (Nat.le_of_ble_eq_true rfl) rfl ?_
          refine k_iinc C dX1_doubt_74 rfl rfl ?_
          refine k_goto C dX1_doubt_77 (tgt := 10) (by decide) ?_
          exact Wk.sub (by repeat (first | exact trivial | apply Lle.so | apply Lle.no)) r
        · have hs := of_decide_eq_true g4
          have eq : kindN (σ.ms j) = κ := ki.mp hs
          refine k_aload_n C dX1_doubt_46 rfl ?_
          refine k_aload_n C dX1_doubt_47 rfl ?_
          refine k_get C fg_X1_130 dX1_doubt_48 (by assumption) (by rfl) ?_
          refine k_iload C dX1_doubt_51 rfl ?_
          refine kx_F C rfl mf_X1_60 dX1_doubt_53 ((c_get A' (by omega) fi)) (by assumption) rfl rfl (Nat.le_of_ble_eq_true rfl) ⟨(Nat.le_of_ble_eq_true rfl), (Nat.le_of_ble_eq_true rfl)⟩ (by omega) (fun r k5 hp_ => ?_) (fun _ _ hx => hx.elim)
          obtain ⟨rfl, rfl⟩ := hp_
          refine k_castO C ck_X1_160_3 dX1_doubt_58 (by assumption) ?_
          have tb := c_takeBack (i := j) Hg (dbtC_ok hσ hb j (by omega)) (by show j < σ.n; omega)
          rw [show (dbtC κ σ j).ms j = σ.ms j from dbtS_at κ σ j, hs] at tb
          refine kx_VW C rfl mv_X1_209 dX1_doubt_61 (tb) (by assumption) rfl rfl (Nat.le_of_ble_eq_true rfl) ⟨(Nat.le_of_ble_eq_true rfl), (Nat.le_of_ble_eq_true rfl)⟩ (by omega) (fun r g5 hp_ => ?_) (fun _ _ hx => hx.elim)
          obtain ⟨rfl, M5, g5', U5⟩ := hp_
          refine k_ifeq_b C dX1_doubt_64 (tgt := 71) (by decide) (fun z => by cases z) (fun _ => ?_)
          obtain ⟨H5, U5'⟩ := put_is (m := ((σ.ms j).1, none, -1, -1)) (tk := σ.tk) (rf := σ.rf) (bk := σ.bk + dbtN κ σ j + 1) Hg hsep (by show j < σ.n; omega) (Ext.refl _) U5 (fun y hy => by
            have hy' : y = (X.A j).1 ∨ y = X.g := by simpa using hy
            rcases hy' with z | z <;> simp [z]) M5 g5'
          rw [← dbtC_hit eq] at H5
          have r := ih (j + 1) g5 (by omega) H5 (Ug.trans U5' (fun y hy => Or.inl hy))
          rw [show ((dbtN κ σ (j + 1) : Nat) : Int) = (dbtN κ σ j : Nat) + 1 by show ((dbtN κ σ j + (if kindN (σ.ms j) = κ then 1 else 0) : Nat) : Int) = _; rw [if_pos eq]; omega] at r
          refine k_iconst C dX1_doubt_67 ?_
          refine k_goto C dX1_doubt_68 (tgt := 72) (by decide) ?_
          refine k_iadd C dX1_doubt_72 ?_
          refine k_istore_n C dX1_doubt_73 (Nat.le_of_ble_eq_true rfl) rfl ?_
          refine k_iinc C dX1_doubt_74 rfl rfl ?_
          refine k_goto C dX1_doubt_77 (tgt := 10) (by decide) ?_
          exact Wk.sub (by repeat (first | exact trivial | apply Lle.so | apply Lle.no)) r
  refine k_astore_n C dX1_doubt_4 (Nat.le_of_ble_eq_true rfl) rfl ?_
  refine k_iconst C dX1_doubt_5 ?_
  refine k_istore_n C dX1_doubt_6 (Nat.le_of_ble_eq_true rfl) rfl ?_
  refine k_iconst C dX1_doubt_7 ?_
  refine k_istore C dX1_doubt_8 (Nat.le_of_ble_eq_true rfl) rfl ?_
  exact loop σ.n 0 kk (by omega) H ((Ext.refl _).updP _)
