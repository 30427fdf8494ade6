/-! ===== the model: many, meanStop ===== -/
set_option maxRecDepth 100000
theorem undB_k (mc : Mch) : undB mc = if kindN mc = -1 then 1 else 0 := by
  unfold undB kindN
  cases mc.2.1 with
  | none => rfl
  | some κ => rw [if_neg (show ¬ ((κ : Int) = -1) by omega)]; rfl
theorem byB_k (mc : Mch) (κ : Nat) : byB κ mc = if kindN mc = (κ : Int) then 1 else 0 := by
  unfold byB kindN
  cases mc.2.1 with
  | none => rw [if_neg (show ¬ ((-1 : Int) = κ) by omega)]; rfl
  | some κ' =>
    by_cases e : κ' = κ
    · subst e; rw [if_pos rfl, if_pos rfl]
    · rw [if_neg (fun z => e (Option.some.inj z)), if_neg (show ¬ ((κ' : Int) = κ) by omega)]
/-- how many of the first i machines are decided so; z - 1 the kind's number -/
def kndC (σ : Sg) (i : Nat) (z : Int) : Int := if z = 0 then sumN (fun j => undB (σ.ms j)) i else sumN (fun j => byB (z - 1).toNat (σ.ms j)) i
theorem kndC_step {σ : Sg} {i : Nat} {z : Int} (hz : 0 ≤ z) : kndC σ (i + 1) z = kndC σ i z + (if z = kindN (σ.ms i) + 1 then 1 else 0) := by
  unfold kndC
  by_cases e : z = 0
  · rw [if_pos e, if_pos e]
    show sumN (fun j => undB (σ.ms j)) i + undB (σ.ms i) = _
    rw [undB_k]
    by_cases g : kindN (σ.ms i) = -1
    · rw [if_pos g, if_pos (by omega)]
    · rw [if_neg g, if_neg (by omega)]
  · rw [if_neg e, if_neg e]
    show sumN (fun j => byB (z - 1).toNat (σ.ms j)) i + byB (z - 1).toNat (σ.ms i) = _
    rw [byB_k]
    by_cases g : kindN (σ.ms i) = ((z - 1).toNat : Nat)
    · rw [if_pos g, if_pos (by omega)]
    · rw [if_neg g, if_neg (by omega)]
theorem kind_b {mc : Mch} (h : MchOk mc) : -1 ≤ kindN mc ∧ kindN mc ≤ 3 := by
  have h2 := h.2.1
  unfold kindN
  cases e : mc.2.1 with
  | none => show (-1 : Int) ≤ -1 ∧ (-1 : Int) ≤ 3; omega
  | some κ => have := h2 κ e; show (-1 : Int) ≤ κ ∧ (κ : Int) ≤ 3; omega
theorem c_mManyNow {w : Wd} {h : Hp} {m : Nat} {L : ML} {σ : Sg} {th what : Int} {s : Int64} (H : isMo w h m L σ th s) (hσ : SgOk σ) (hw : 0 ≤ what ∧ what ≤ 10) : Ct w yX3_manyNow (ws_ yX3_manyNow cX3_manyNow 6 (some FieldType.int)) 3 81 3 20 [.ref m, jI what] h (fun v h' => v = some (jI (manyC σ what)) ∧ Ext h h') NoX := by
  have hm := H.1
  have hn := hσ.1
  obtain ⟨f0, A0, F0'⟩ := H.2.1
  have l0 := A0.1
  refine Ct.of (by decide) [some (.ref m), some (jI what), none, none, none, none] rfl (Nat.le_of_ble_eq_true rfl) (fun K C E N0 => ?_)
  refine k_iconst C dX3_manyNow_0 ?_
  refine k_newarr (kd := 0) (g := fun j : Nat => jI ((fun _ => 0 : Int → Int) (j : Int))) C q358 rfl rfl (fun _ => rfl) dX3_manyNow_1 (by omega) (by decide) (by omega) (fun ka h1 N1 => ?_)
  have k1' : h1.2 ka = some (aI 0 5 (fun _ => 0)) := N1.2.1
  have hm1 := N1.2.2.1.2 _ _ hm
  have l1 := N1.2.2.1.2 _ _ l0
  refine k_astore_n C dX3_manyNow_3 (Nat.le_of_ble_eq_true rfl) rfl ?_
  refine k_iconst C dX3_manyNow_4 ?_
  refine k_istore_n C dX3_manyNow_5 (Nat.le_of_ble_eq_true rfl) rfl ?_
  refine k_aload_n C dX3_manyNow_6 rfl ?_
  refine k_get C fg_X3_10 dX3_manyNow_7 (by assumption) (by rfl) ?_
  refine kx_V C rfl mv_X3_158 dX3_manyNow_10 ((c_iterator l1)) (by assumption) rfl rfl (Nat.le_of_ble_eq_true rfl) ⟨(Nat.le_of_ble_eq_true rfl), (Nat.le_of_ble_eq_true rfl)⟩ (by omega) (fun v h2 hp_ => ?_) (fun _ _ hx => hx.elim)
  obtain ⟨it, rfl, N2⟩ := hp_
  have ka0 : h.2 ka = none := N1.1
  have it0 : h.2 it = none := N1.2.2.1.old N2.1
  have kit : ka ≠ it := N2.ne k1'
  refine k_astore C dX3_manyNow_13 (Nat.le_of_ble_eq_true rfl) rfl ?_
  have loop : ∀ (d j : Nat) (hh : Hp) (g : Int → Int) (v1 : Value), j + d = σ.n → Ext h hh → hh.2 ka = some (aI 0 5 g) → (∀ z : Int, 0 ≤ z → z < 5 → g z = kndC σ j z) → hh.2 it = some (.inl (16, [jI j, v1, jI σ.n, .ref L.lm])) → (∀ (hx : Hp) (g : Int → Int), Ext h hx → hx.2 ka = some (aI 0 5 g) → (∀ z : Int, 0 ≤ z → z < 5 → g z = kndC σ σ.n z) → Wk w K hx 2 9 61 [some (.ref m), some (jI what), some (.ref ka), some (jI (sumN (fun i => cntE (σ.ms i).1 (2 * (σ.ms i).1.1)) σ.n)), some (.ref it), none] []) → Wk w K hh 2 9 15 [some (.ref m), some (jI what), some (.ref ka), some (jI (sumN (fun i => cntE (σ.ms i).1 (2 * (σ.ms i).1.1)) j)), some (.ref it), none] [] := by
    intro d
    induction d with
    | zero =>
      intro j hh g v1 hj E0 hka hg hit cont
      have hj' : j = σ.n := by omega
      subst hj'
      have l1 := E0.2 _ _ l0
      refine k_aload C dX3_manyNow_15 rfl ?_
      refine kx_F C rfl mf_X3_162 dX3_manyNow_17 ((c_hasNext (i := σ.n) (n := σ.n) (by omega) hit l1)) (by assumption) rfl rfl (Nat.le_of_ble_eq_true rfl) ⟨(Nat.le_of_ble_eq_true rfl), (Nat.le_of_ble_eq_true rfl)⟩ (by omega) (fun v kz hp_ => ?_) (fun _ _ hx => hx.elim)
      obtain ⟨rfl, rfl⟩ := hp_
      rw [decide_eq_false (Nat.lt_irrefl σ.n)]
      refine k_ifeq_b C dX3_manyNow_22 (tgt := 61) (by decide) (fun _ => ?_) (fun z => by cases z)
      exact cont kz g E0 hka hg
    | succ d ih =>
      intro j hh g v1 hj E0 hka hg hit cont
      have l1 := E0.2 _ _ l0
      have mok := hσ.2.2.1 j (by omega)
      have kb := kind_b mok
      refine k_aload C dX3_manyNow_15 rfl ?_
      refine kx_F C rfl mf_X3_162 dX3_manyNow_17 ((c_hasNext (i := j) (n := σ.n) (by omega) hit l1)) (by assumption) rfl rfl (Nat.le_of_ble_eq_true rfl) ⟨(Nat.le_of_ble_eq_true rfl), (Nat.le_of_ble_eq_true rfl)⟩ (by omega) (fun v kz hp_ => ?_) (fun _ _ hx => hx.elim)
      obtain ⟨rfl, rfl⟩ := hp_
      rw [decide_eq_true (show j < σ.n by omega)]
      refine k_ifeq_b C dX3_manyNow_22 (tgt := 61) (by decide) (fun z => by cases z) (fun _ => ?_)
      refine k_aload C dX3_manyNow_25 rfl ?_
      refine kx_F C rfl mf_X3_167 dX3_manyNow_27 ((c_next (A0.ext E0) (i := j) (by omega) (F0' j (by omega)) hit)) (by assumption) rfl rfl (Nat.le_of_ble_eq_true rfl) ⟨(Nat.le_of_ble_eq_true rfl), (Nat.le_of_ble_eq_true rfl)⟩ (by omega) (fun v g1 hp_ => ?_) (fun _ _ hx => hx.elim)
      obtain ⟨rfl, P1⟩ := hp_
      have E1 : Ext h g1 := P1.upd.ext0 E0 (by simpa using it0)
      have M := (H.ext E1).2.2.2.1 j (by omega)
      have M1 := M.1
      have ka1 := P1.2.2 _ _ hka kit
      refine k_castO C ck_X3_35_5 dX3_manyNow_32 (by assumption) ?_
      refine k_astore C dX3_manyNow_35 (Nat.le_of_ble_eq_true rfl) rfl ?_
      refine k_aload_n C dX3_manyNow_37 rfl ?_
      refine k_aload C dX3_manyNow_38 rfl ?_
      refine k_getN C fn_X3_175 dX3_manyNow_40 (by assumption) (by rfl) ?_
      refine k_iconst C dX3_manyNow_43 ?_
      refine k_iadd C dX3_manyNow_44 ?_
      refine k_dup2_11 C dX3_manyNow_45 rfl rfl ?_
      refine k_iald C dX3_manyNow_46 (by assumption) (by rfl) (by omega) ?_
      refine k_iconst C dX3_manyNow_47 ?_
      refine k_iadd C dX3_manyNow_48 ?_
      refine k_iast C dX3_manyNow_49 (by assumption) (by omega) (fun g2 P2 => ?_)
      have E2 : Ext h g2 := P2.upd.ext0 E1 (by simpa using ka0)
      have it2 := P2.2.2 _ _ P1.2.1 (Ne.symm kit)
      have M2 := (H.ext E2).2.2.2.1 j (by omega)
      have M21 := M2.1
      refine k_iload_n C dX3_manyNow_50 rfl ?_
      refine k_aload C dX3_manyNow_51 rfl ?_
      refine kx_V C rfl mv_X3_78 dX3_manyNow_53 ((c_mdEmpty M2 mok.1.2.1)) (by assumption) rfl rfl (Nat.le_of_ble_eq_true rfl) ⟨(Nat.le_of_ble_eq_true rfl), (Nat.le_of_ble_eq_true rfl)⟩ (by omega) (fun v g3 hp_ => ?_) (fun _ _ hx => hx.elim)
      obtain ⟨rfl, rfl⟩ := hp_
      refine k_iadd C dX3_manyNow_56 ?_
      refine k_istore_n C dX3_manyNow_57 (Nat.le_of_ble_eq_true rfl) rfl ?_
      refine k_goto C dX3_manyNow_58 (tgt := 15) (by decide) ?_
      exact Wk.sub (by repeat (first | exact trivial | apply Lle.so | apply Lle.no)) (ih (j + 1) g3 _ _ (by omega) E2 P2.2.1 (fun z z0 z1 => by
        rw [kndC_step z0]
        by_cases e : z = kindN (σ.ms j) + 1
        · rw [e, up_at, if_pos rfl, hg _ (by omega) (by omega)]
        · rw [up_ne e, if_neg e, hg z z0 z1]; omega) it2 cont)
  refine Wk.sub (by repeat (first | exact trivial | apply Lle.so | apply Lle.no)) (loop σ.n 0 h2 _ _ (by omega) (N1.2.2.1.trans N2.2.2.1) (N2.2.2.1.2 _ _ k1') (fun z z0 z1 => by unfold kndC; split <;> rfl) N2.2.1 (fun hx g EX hka hg => ?_))
  have mx := EX.2 _ _ hm
  have lx := EX.2 _ _ l0
  obtain ⟨ft, At, Ft⟩ := H.2.2.1
  have lt := EX.2 _ _ At.1
  refine k_bipush C dX3_manyNow_61 (by decide) ?_
  refine k_newarr (kd := 0) (g := fun j : Nat => jI ((fun _ => 0 : Int → Int) (j : Int))) C q358 rfl rfl (fun _ => rfl) dX3_manyNow_63 (by omega) (by decide) (by omega) (fun ta j0 N3 => ?_)
  have t0 : j0.2 ta = some (aI 0 11 (fun _ => 0)) := N3.2.1
  have m0 := N3.2.2.1.2 _ _ mx
  have ka0x := N3.2.2.1.2 _ _ hka
  have l00 := N3.2.2.1.2 _ _ lx
  refine k_dup C dX3_manyNow_65 rfl ?_
  refine k_iconst C dX3_manyNow_66 ?_
  refine k_aload_n C dX3_manyNow_67 rfl ?_
  refine k_get C fg_X3_10 dX3_manyNow_68 (by assumption) (by rfl) ?_
  refine kx_V C rfl mv_X3_23 dX3_manyNow_71 ((c_size l00)) (by assumption) rfl rfl (Nat.le_of_ble_eq_true rfl) ⟨(Nat.le_of_ble_eq_true rfl), (Nat.le_of_ble_eq_true rfl)⟩ (by omega) (fun v jz hp_ => ?_) (fun _ _ hx => hx.elim)
  obtain ⟨rfl, rfl⟩ := hp_
  refine k_iast C dX3_manyNow_74 (by assumption) (by omega) (fun j1 Q1 => ?_)
  have NN1 := N3.put Q1
  have t1 := NN1.2.1
  have m1 := NN1.2.2.1.2 _ _ mx
  have ka1 := NN1.2.2.1.2 _ _ hka
  refine k_dup C dX3_manyNow_75 rfl ?_
  refine k_iconst C dX3_manyNow_76 ?_
  refine k_aload_n C dX3_manyNow_77 rfl ?_
  refine k_iconst C dX3_manyNow_78 ?_
  refine k_iald C dX3_manyNow_79 (by assumption) (by rfl) (by omega) ?_
  rw [hg 0 (by decide) (by decide)]
  refine k_iast C dX3_manyNow_80 (by assumption) (by omega) (fun j2 Q2 => ?_)
  have NN2 := NN1.put Q2
  have t2 := NN2.2.1
  have m2 := NN2.2.2.1.2 _ _ mx
  have ka2 := NN2.2.2.1.2 _ _ hka
  refine k_dup C dX3_manyNow_81 rfl ?_
  refine k_iconst C dX3_manyNow_82 ?_
  refine k_aload_n C dX3_manyNow_83 rfl ?_
  refine k_iconst C dX3_manyNow_84 ?_
  refine k_iald C dX3_manyNow_85 (by assumption) (by rfl) (by omega) ?_
  rw [hg 1 (by decide) (by decide)]
  refine k_iast C dX3_manyNow_86 (by assumption) (by omega) (fun j3 Q3 => ?_)
  have NN3 := NN2.put Q3
  have t3 := NN3.2.1
  have m3 := NN3.2.2.1.2 _ _ mx
  have ka3 := NN3.2.2.1.2 _ _ hka
  refine k_dup C dX3_manyNow_87 rfl ?_
  refine k_iconst C dX3_manyNow_88 ?_
  refine k_aload_n C dX3_manyNow_89 rfl ?_
  refine k_iconst C dX3_manyNow_90 ?_
  refine k_iald C dX3_manyNow_91 (by assumption) (by rfl) (by omega) ?_
  rw [hg 2 (by decide) (by decide)]
  refine k_iast C dX3_manyNow_92 (by assumption) (by omega) (fun j4 Q4 => ?_)
  have NN4 := NN3.put Q4
  have t4 := NN4.2.1
  have m4 := NN4.2.2.1.2 _ _ mx
  have ka4 := NN4.2.2.1.2 _ _ hka
  refine k_dup C dX3_manyNow_93 rfl ?_
  refine k_iconst C dX3_manyNow_94 ?_
  refine k_aload_n C dX3_manyNow_95 rfl ?_
  refine k_iconst C dX3_manyNow_96 ?_
  refine k_iald C dX3_manyNow_97 (by assumption) (by rfl) (by omega) ?_
  rw [hg 3 (by decide) (by decide)]
  refine k_iast C dX3_manyNow_98 (by assumption) (by omega) (fun j5 Q5 => ?_)
  have NN5 := NN4.put Q5
  have t5 := NN5.2.1
  have m5 := NN5.2.2.1.2 _ _ mx
  have ka5 := NN5.2.2.1.2 _ _ hka
  refine k_dup C dX3_manyNow_99 rfl ?_
  refine k_iconst C dX3_manyNow_100 ?_
  refine k_aload_n C dX3_manyNow_101 rfl ?_
  refine k_iconst C dX3_manyNow_102 ?_
  refine k_iald C dX3_manyNow_103 (by assumption) (by rfl) (by omega) ?_
  rw [hg 4 (by decide) (by decide)]
  refine k_iast C dX3_manyNow_104 (by assumption) (by omega) (fun j6 Q6 => ?_)
  have NN6 := NN5.put Q6
  have t6 := NN6.2.1
  have m6 := NN6.2.2.1.2 _ _ mx
  have ka6 := NN6.2.2.1.2 _ _ hka
  have lt6 := NN6.2.2.1.2 _ _ lt
  refine k_dup C dX3_manyNow_105 rfl ?_
  refine k_bipush C dX3_manyNow_106 (by decide) ?_
  refine k_aload_n C dX3_manyNow_108 rfl ?_
  refine k_get C fg_X3_16 dX3_manyNow_109 (by assumption) (by rfl) ?_
  refine kx_V C rfl mv_X3_23 dX3_manyNow_112 ((c_size lt6)) (by assumption) rfl rfl (Nat.le_of_ble_eq_true rfl) ⟨(Nat.le_of_ble_eq_true rfl), (Nat.le_of_ble_eq_true rfl)⟩ (by omega) (fun v jw hp_ => ?_) (fun _ _ hx => hx.elim)
  obtain ⟨rfl, rfl⟩ := hp_
  refine k_iast C dX3_manyNow_115 (by assumption) (by omega) (fun j7 Q7 => ?_)
  have NN7 := NN6.put Q7
  have t7 := NN7.2.1
  have m7 := NN7.2.2.1.2 _ _ mx
  have ka7 := NN7.2.2.1.2 _ _ hka
  refine k_dup C dX3_manyNow_116 rfl ?_
  refine k_bipush C dX3_manyNow_117 (by decide) ?_
  refine k_aload_n C dX3_manyNow_119 rfl ?_
  refine k_get C fg_X3_191 dX3_manyNow_120 (by assumption) (by rfl) ?_
  refine k_iast C dX3_manyNow_123 (by assumption) (by omega) (fun j8 Q8 => ?_)
  have NN8 := NN7.put Q8
  have t8 := NN8.2.1
  have m8 := NN8.2.2.1.2 _ _ mx
  have ka8 := NN8.2.2.1.2 _ _ hka
  refine k_dup C dX3_manyNow_124 rfl ?_
  refine k_bipush C dX3_manyNow_125 (by decide) ?_
  refine k_aload_n C dX3_manyNow_127 rfl ?_
  refine k_get C fg_X3_194 dX3_manyNow_128 (by assumption) (by rfl) ?_
  refine k_iast C dX3_manyNow_131 (by assumption) (by omega) (fun j9 Q9 => ?_)
  have NN9 := NN8.put Q9
  have t9 := NN9.2.1
  have m9 := NN9.2.2.1.2 _ _ mx
  have ka9 := NN9.2.2.1.2 _ _ hka
  refine k_dup C dX3_manyNow_132 rfl ?_
  refine k_bipush C dX3_manyNow_133 (by decide) ?_
  refine k_aload_n C dX3_manyNow_135 rfl ?_
  refine k_get C fg_X3_67 dX3_manyNow_136 (by assumption) (by rfl) ?_
  refine k_iast C dX3_manyNow_139 (by assumption) (by omega) (fun j10 Q10 => ?_)
  have NN10 := NN9.put Q10
  have t10 := NN10.2.1
  have m10 := NN10.2.2.1.2 _ _ mx
  have ka10 := NN10.2.2.1.2 _ _ hka
  refine k_dup C dX3_manyNow_140 rfl ?_
  refine k_bipush C dX3_manyNow_141 (by decide) ?_
  refine k_iload_n C dX3_manyNow_143 rfl ?_
  refine k_iast C dX3_manyNow_144 (by assumption) (by omega) (fun j11 Q11 => ?_)
  have NN11 := NN10.put Q11
  have t11 := NN11.2.1
  have ev : ∀ fx : Int → Int, fx = ((up (up (up (up (up (up (up (up (up (up (up (fun _ => 0) 0 ((σ.n : Nat) : Int)) 1 (kndC σ σ.n 0)) 2 (kndC σ σ.n 1)) 3 (kndC σ σ.n 2)) 4 (kndC σ σ.n 3)) 5 (kndC σ σ.n 4)) 6 ((σ.k : Nat) : Int)) 7 ((σ.tk : Nat) + (σ.rf : Nat))) 8 ((σ.tk : Nat) : Int)) 9 ((σ.bk : Nat) : Int)) 10 (sumN (fun i => cntE (σ.ms i).1 (2 * (σ.ms i).1.1)) σ.n)) : Int → Int) → fx what = manyC σ what := by
    intro fx e
    rw [e]
    have hs : what = 0 ∨ what = 1 ∨ what = 2 ∨ what = 3 ∨ what = 4 ∨ what = 5 ∨ what = 6 ∨ what = 7 ∨ what = 8 ∨ what = 9 ∨ what = 10 := by omega
    rcases hs with e | e | e | e | e | e | e | e | e | e | e <;> subst e <;> simp [up, manyC, kndC]
  refine k_astore C dX3_manyNow_145 (Nat.le_of_ble_eq_true rfl) rfl ?_
  refine k_aload C dX3_manyNow_147 rfl ?_
  refine k_iload_n C dX3_manyNow_149 rfl ?_
  refine k_iald C dX3_manyNow_150 (by assumption) (by rfl) (by omega) ?_
  rw [ev _ rfl]
  exact k_iret C E dX3_manyNow_151 (by omega) ⟨rfl, EX.trans NN11.2.2.1⟩
theorem c_mManyX {w : Wd} {h : Hp} {m : Nat} {L : ML} {σ : Sg} {th what : Int} {s : Int64} (H : isMo w h m L σ th s) (hσ : SgOk σ) (hw : i32 what) : Ct w yX3_many (ws_ yX3_many cX3_many 2 (some FieldType.int)) 4 106 3 20 [.ref m, jI what] h (qPost w h m L σ s (manyK what) (manyC σ what)) NoX := by
  have hm := H.1
  unfold manyK
  refine Ct.of (by decide) [some (.ref m), some (jI what)] rfl (Nat.le_of_ble_eq_true rfl) (fun K C E N0 => ?_)
  refine k_aload_n C dX3_many_0 rfl ?_
  refine k_iconst C dX3_many_1 ?_
  refine k_put C fg_X3_19 ft_2_0 dX3_many_2 (by assumption) rfl rfl rfl (fun h1 P1 => ?_)
  have H1 := H.own P1
  have hm1 := H1.1
  have U1 := P1.upd
  refine k_iload_n C dX3_many_5 rfl ?_
  refine k_iconst C dX3_many_6 ?_
  refine k_bipush C dX3_many_7 (by decide) ?_
  refine kx_S C rfl ms_X3_27 dX3_many_9 ((c_is (v := what) (a := 0) (b := 10) (by unfold i32 at *; omega))) rfl rfl (Nat.le_of_ble_eq_true rfl) ⟨(Nat.le_of_ble_eq_true rfl), (Nat.le_of_ble_eq_true rfl)⟩ (by omega) (fun v k1 hp_ => ?_) (fun _ _ hx => hx.elim)
  obtain ⟨rfl, rfl⟩ := hp_
  by_cases hin : 0 ≤ what ∧ what ≤ 10
  · rw [decide_eq_true hin]
    rw [if_pos hin] at E
    refine k_ifeq_b C dX3_many_12 (tgt := 23) (by decide) (fun z => by cases z) (fun _ => ?_)
    refine k_aload_n C dX3_many_15 rfl ?_
    refine k_iload_n C dX3_many_16 rfl ?_
    refine kx_V C rfl mv_X3_258 dX3_many_17 ((c_mManyNow H1 hσ hin)) (by assumption) rfl rfl (Nat.le_of_ble_eq_true rfl) ⟨(Nat.le_of_ble_eq_true rfl), (Nat.le_of_ble_eq_true rfl)⟩ (by omega) (fun v h2 hp_ => ?_) (fun _ _ hx => hx.elim)
    obtain ⟨rfl, E2⟩ := hp_
    refine k_goto C dX3_many_20 (tgt := 28) (by decide) ?_
    exact k_iret C E dX3_many_28 (by omega) ⟨H1.ext E2, U1.trans (E2.upd [m]) (fun x hx => Or.inl hx), _, rfl, fun _ => rfl⟩
  · rw [decide_eq_false hin]
    rw [if_neg hin] at E
    refine k_ifeq_b C dX3_many_12 (tgt := 23) (by decide) (fun _ => ?_) (fun z => by cases z)
    refine k_aload_n C dX3_many_23 rfl ?_
    refine k_iconst C dX3_many_24 ?_
    refine kx_V C rfl mv_X3_31 dX3_many_25 ((c_mRefuse (z := 1) H1)) (by assumption) rfl rfl (Nat.le_of_ble_eq_true rfl) ⟨(Nat.le_of_ble_eq_true rfl), (Nat.le_of_ble_eq_true rfl)⟩ (by omega) (fun v h2 hp_ => ?_) (fun _ _ hx => hx.elim)
    obtain ⟨rfl, H2, U2⟩ := hp_
    exact k_iret C E dX3_many_28 (by omega) ⟨H2, U1.trans U2 (fun x hx => Or.inl hx), 0, rfl, fun z => (by cases z)⟩
