/-! ===== what the model answers of one machine ===== -/
set_option maxRecDepth 100000
theorem c_mCellNow {w : Wd} {h : Hp} {md cs : Nat} {T : Tb} {kv av bv s b what : Int} (G : isMd h md cs T kv av bv) (hT : TbOk T) (hs : 0 ≤ s ∧ s < T.1) (hb : 0 ≤ b ∧ b ≤ 1) (hw : 0 ≤ what ∧ what ≤ 2) : Ct w yX3_cellNow (ws_ yX3_cellNow cX3_cellNow 5 (some FieldType.int)) 1 40 0 0 [.ref md, jI s, jI b, jI what] h (fun v h' => v = some (jI (cellC T (2 * s + b) what)) ∧ h' = h) NoX := by
  obtain ⟨G1, f, G2, G3⟩ := G
  have hcl := G3 (2 * s + b) (by omega) (by omega)
  refine Ct.of (by decide) [some (.ref md), some (jI s), some (jI b), some (jI what), none] rfl (Nat.le_of_ble_eq_true rfl) (fun K C E N0 => ?_)
  generalize hres : cellC T (2 * s + b) what = res at *
  unfold cellC at hres
  refine k_aload_n C dX3_cellNow_0 rfl ?_
  refine k_iload_n C dX3_cellNow_1 rfl ?_
  refine k_iload_n C dX3_cellNow_2 rfl ?_
  refine kx_V C rfl mv_X3_55 dX3_cellNow_3 ((c_mdCell G1 G2 hT.2.1 hs hb)) (by assumption) rfl rfl (Nat.le_of_ble_eq_true rfl) ⟨(Nat.le_of_ble_eq_true rfl), (Nat.le_of_ble_eq_true rfl)⟩ (by omega) (fun v kk hp_ => ?_) (fun _ _ hx => hx.elim)
  obtain ⟨rfl, rfl⟩ := hp_
  cases hr : T.2 (2 * s + b) with
  | none =>
    rw [hr] at hres hcl
    dsimp only at hres
    rw [show f (2 * s + b) = none from hcl]
    refine k_astoreN C dX3_cellNow_6 (Nat.le_of_ble_eq_true rfl) rfl ?_
    refine k_aloadN C dX3_cellNow_8 rfl ?_
    refine k_ifnonnullN C dX3_cellNow_10 ?_
    refine k_iconst C dX3_cellNow_13 ?_
    rw [hres]
    exact k_iret C E dX3_cellNow_14 (by omega) ⟨rfl, rfl⟩
  | some r =>
    rw [hr] at hres hcl
    dsimp only at hres
    obtain ⟨p, g, hf, hp, e0, e1, e2⟩ := hcl
    obtain ⟨u1, u2, u3, u4⟩ := hT.2.2 _ r (by omega) (by omega) hr
    have hT2 := hT.2.1
    rw [hf]
    refine k_astore (x := p) C dX3_cellNow_6 (Nat.le_of_ble_eq_true rfl) rfl ?_
    refine k_aload C dX3_cellNow_8 rfl ?_
    refine k_ifnonnull C dX3_cellNow_10 (tgt := 15) (by decide) ?_
    refine k_iload_n C dX3_cellNow_15 rfl ?_
    refine k_iconst C dX3_cellNow_16 ?_
    refine k_icmp_ne C dX3_cellNow_17 (tgt := 31) (by decide) (by omega) (fun g1 => ?_) (fun g2 => ?_)
    · refine k_aload C dX3_cellNow_31 rfl ?_
      refine k_iload_n C dX3_cellNow_33 rfl ?_
      refine k_iald C dX3_cellNow_34 (by assumption) (by rfl) (by omega) ?_
      have ex : g what = res := by
        by_cases z : what = 0
        · subst z; rw [if_pos rfl] at hres; rw [e0]; exact hres
        · rw [if_neg z, if_neg g1] at hres
          have : what = 2 := by omega
          subst this; rw [e2]; exact hres
      rw [ex]
      exact k_iret C E dX3_cellNow_35 (by omega) ⟨rfl, rfl⟩
    · subst g2
      rw [if_neg (by decide), if_pos rfl] at hres
      refine k_iconst C dX3_cellNow_20 ?_
      refine k_aload C dX3_cellNow_21 rfl ?_
      refine k_iconst C dX3_cellNow_23 ?_
      refine k_iald C dX3_cellNow_24 (by assumption) (by rfl) (by omega) ?_
      rw [e1]
      refine k_max C rfl q1445 dX3_cellNow_25 (by omega) ⟨(Nat.le_of_ble_eq_true rfl), (Nat.le_of_ble_eq_true rfl)⟩ (by omega) ?_
      refine k_goto C dX3_cellNow_28 (tgt := 35) (by decide) ?_
      rw [hres]
      exact k_iret C E dX3_cellNow_35 (by omega) ⟨rfl, rfl⟩
theorem waysC_eq {T : Tb} (c : Cf) : waysC T c = if hangB T c then 5 + 4 * min ((T.1 : Int) - 1) (mostN T (2 * T.1) + 1) else 0 := by
  unfold waysC reachN
  split
  · omega
  · rfl
theorem c_mWays {w : Wd} {h : Hp} {x md cs : Nat} {T : Tb} {kv av bv : Int} (G : isMd h md cs T kv av bv) (hT : TbOk T) : Ct w yX3_ways (ws_ yX3_ways cX3_ways 2 (some FieldType.int)) 4 85 2 1011 [.ref x, .ref md] h (fun v h' => v = some (jI (waysC T (runN T 500 c0))) ∧ Ext h h') NoX := by
  have G1 := G.1
  have r1 := runN_c0 hT 500
  have mb := mostN_b hT (2 * T.1) (Nat.le_refl _)
  have hT2 := hT.2.1
  refine Ct.of (by decide) [some (.ref x), some (.ref md)] rfl (Nat.le_of_ble_eq_true rfl) (fun K C E N0 => ?_)
  rw [waysC_eq] at E
  refine k_aload_n C dX3_ways_0 rfl ?_
  refine k_sipush C dX3_ways_1 (by decide) ?_
  refine kx_V C rfl mv_X3_81 dX3_ways_4 ((c_run (R := 500) (by omega) G hT)) (by assumption) rfl rfl (Nat.le_of_ble_eq_true rfl) ⟨(Nat.le_of_ble_eq_true rfl), (Nat.le_of_ble_eq_true rfl)⟩ (by omega) (fun v h1 hp_ => ?_) (fun _ _ hx => hx.elim)
  obtain ⟨q, tp, rfl, q0, tp0, W1, E1⟩ := hp_
  have W11 := W1.1
  have G11 := (G.ext E1).1
  refine kx_V C rfl mv_X3_85 dX3_ways_7 ((c_rnHung (by omega) W1 (G.ext E1) hT r1.1 (by omega))) (by assumption) rfl rfl (Nat.le_of_ble_eq_true rfl) ⟨(Nat.le_of_ble_eq_true rfl), (Nat.le_of_ble_eq_true rfl)⟩ (by omega) (fun v k1 hp_ => ?_) (fun _ _ hx => hx.elim)
  obtain ⟨rfl, rfl⟩ := hp_
  refine k_ifeq_b C dX3_ways_10 (tgt := 24) (by decide) (fun g1 => ?_) (fun g2 => ?_)
  · refine k_iconst C dX3_ways_24 ?_
    rw [g1, if_neg (by decide)] at E
    exact k_iret C E dX3_ways_25 (by omega) ⟨rfl, E1⟩
  · refine k_iconst C dX3_ways_13 ?_
    refine k_iconst C dX3_ways_14 ?_
    refine k_aload_n C dX3_ways_15 rfl ?_
    refine kx_V C rfl mv_X3_90 dX3_ways_16 ((c_mdTop (G.ext E1) hT)) (by assumption) rfl rfl (Nat.le_of_ble_eq_true rfl) ⟨(Nat.le_of_ble_eq_true rfl), (Nat.le_of_ble_eq_true rfl)⟩ (by omega) (fun v k2 hp_ => ?_) (fun _ _ hx => hx.elim)
    obtain ⟨rfl, rfl⟩ := hp_
    refine k_imul C dX3_ways_19 ?_
    refine k_iadd C dX3_ways_20 ?_
    refine k_goto C dX3_ways_21 (tgt := 25) (by decide) ?_
    rw [g2, if_pos rfl] at E
    exact k_iret C E dX3_ways_25 (by omega) ⟨rfl, E1⟩
theorem c_mAtNow {w : Wd} {h : Hp} {q md tp R : Nat} {T : Tb} {c : Cf} {what : Int} (hw : 0 ≤ what ∧ what ≤ 7) (hR : R < 1000) (W : isRn h q md tp R c) (hc : CfOk T c) (hn : c.n ≤ R) : Ct w yX3_atNow (ws_ yX3_atNow cX3_atNow 3 (some FieldType.int)) 3 65 1 8 [.ref q, jI what] h (fun v h' => v = some (jI (atC c what)) ∧ Ext h h') NoX := by
  have o1 := onesC_b hc
  obtain ⟨-, ⟨b3, b4, b5, b6, b7, b8⟩, b9, b10⟩ := id hc
  have W0 := W.1
  refine Ct.of (by decide) [some (.ref q), some (jI what), none] rfl (Nat.le_of_ble_eq_true rfl) (fun K C E N0 => ?_)
  refine k_bipush C dX3_atNow_0 (by decide) ?_
  refine k_newarr (kd := 0) (g := fun j : Nat => jI ((fun _ => 0 : Int → Int) (j : Int))) C q358 rfl rfl (fun _ => rfl) dX3_atNow_2 (by omega) (by decide) (by omega) (fun ta h1 N1 => ?_)
  have t1 : h1.2 ta = some (aI 0 8 (fun _ => 0)) := N1.2.1
  have E1 := N1.2.2.1
  have W1 := W.ext E1
  have W1c := W1.1
  refine k_dup C dX3_atNow_4 rfl ?_
  refine k_iconst C dX3_atNow_5 ?_
  refine k_aload_n C dX3_atNow_6 rfl ?_
  refine k_getN C fn_X3_112 dX3_atNow_7 (by assumption) (by rfl) ?_
  refine k_iast C dX3_atNow_10 (by assumption) (by omega) (fun h2 P2 => ?_)
  have t2 := P2.2.1
  have E2 := P2.upd.ext0 E1 (by simpa using N1.1)
  have W2 := W.ext E2
  have W2c := W2.1
  refine k_dup C dX3_atNow_11 rfl ?_
  refine k_iconst C dX3_atNow_12 ?_
  refine k_aload_n C dX3_atNow_13 rfl ?_
  refine k_getN C fn_X3_103 dX3_atNow_14 (by assumption) (by rfl) ?_
  refine k_iast C dX3_atNow_17 (by assumption) (by omega) (fun h3 P3 => ?_)
  have t3 := P3.2.1
  have E3 := P3.upd.ext0 E2 (by simpa using N1.1)
  have W3 := W.ext E3
  have W3c := W3.1
  refine k_dup C dX3_atNow_18 rfl ?_
  refine k_iconst C dX3_atNow_19 ?_
  refine k_aload_n C dX3_atNow_20 rfl ?_
  refine k_getN C fn_X3_132 dX3_atNow_21 (by assumption) (by rfl) ?_
  refine k_iast C dX3_atNow_24 (by assumption) (by omega) (fun h4 P4 => ?_)
  have t4 := P4.2.1
  have E4 := P4.upd.ext0 E3 (by simpa using N1.1)
  have W4 := W.ext E4
  have W4c := W4.1
  refine k_dup C dX3_atNow_25 rfl ?_
  refine k_iconst C dX3_atNow_26 ?_
  refine k_aload_n C dX3_atNow_27 rfl ?_
  refine kx_V C rfl mv_X3_215 dX3_atNow_28 ((c_rnOnes hR W4 hc hn)) (by assumption) rfl rfl (Nat.le_of_ble_eq_true rfl) ⟨(Nat.le_of_ble_eq_true rfl), (Nat.le_of_ble_eq_true rfl)⟩ (by omega) (fun v h4 hp_ => ?_) (fun _ _ hx => hx.elim)
  obtain ⟨rfl, rfl⟩ := hp_
  refine k_iast C dX3_atNow_31 (by assumption) (by omega) (fun h5 P5 => ?_)
  have t5 := P5.2.1
  have E5 := P5.upd.ext0 E4 (by simpa using N1.1)
  have W5 := W.ext E5
  have W5c := W5.1
  refine k_dup C dX3_atNow_32 rfl ?_
  refine k_iconst C dX3_atNow_33 ?_
  refine k_aload_n C dX3_atNow_34 rfl ?_
  refine kx_V C rfl mv_X3_224 dX3_atNow_35 ((c_rnRuns hR W5 hc hn)) (by assumption) rfl rfl (Nat.le_of_ble_eq_true rfl) ⟨(Nat.le_of_ble_eq_true rfl), (Nat.le_of_ble_eq_true rfl)⟩ (by omega) (fun v h5 hp_ => ?_) (fun _ _ hx => hx.elim)
  obtain ⟨rfl, rfl⟩ := hp_
  refine k_iast C dX3_atNow_38 (by assumption) (by omega) (fun h6 P6 => ?_)
  have t6 := P6.2.1
  have E6 := P6.upd.ext0 E5 (by simpa using N1.1)
  have W6 := W.ext E6
  have W6c := W6.1
  refine k_dup C dX3_atNow_39 rfl ?_
  refine k_iconst C dX3_atNow_40 ?_
  refine k_aload_n C dX3_atNow_41 rfl ?_
  refine k_getN C fn_X3_227 dX3_atNow_42 (by assumption) (by rfl) ?_
  refine k_iast C dX3_atNow_45 (by assumption) (by omega) (fun h7 P7 => ?_)
  have t7 := P7.2.1
  have E7 := P7.upd.ext0 E6 (by simpa using N1.1)
  have W7 := W.ext E7
  have W7c := W7.1
  refine k_dup C dX3_atNow_46 rfl ?_
  refine k_bipush C dX3_atNow_47 (by decide) ?_
  refine k_aload_n C dX3_atNow_49 rfl ?_
  refine k_getN C fn_X3_230 dX3_atNow_50 (by assumption) (by rfl) ?_
  refine k_iast C dX3_atNow_53 (by assumption) (by omega) (fun h8 P8 => ?_)
  have t8 := P8.2.1
  have E8 := P8.upd.ext0 E7 (by simpa using N1.1)
  have W8 := W.ext E8
  have W8c := W8.1
  refine k_dup C dX3_atNow_54 rfl ?_
  refine k_bipush C dX3_atNow_55 (by decide) ?_
  refine k_bipush C dX3_atNow_57 (by decide) ?_
  refine k_aload_n C dX3_atNow_59 rfl ?_
  refine kx_V C rfl mv_X3_215 dX3_atNow_60 ((c_rnOnes hR W8 hc hn)) (by assumption) rfl rfl (Nat.le_of_ble_eq_true rfl) ⟨(Nat.le_of_ble_eq_true rfl), (Nat.le_of_ble_eq_true rfl)⟩ (by omega) (fun v h8 hp_ => ?_) (fun _ _ hx => hx.elim)
  obtain ⟨rfl, rfl⟩ := hp_
  refine k_imul C dX3_atNow_63 ?_
  refine k_aload_n C dX3_atNow_64 rfl ?_
  refine k_getN C fn_X3_230 dX3_atNow_65 (by assumption) (by rfl) ?_
  refine k_aload_n C dX3_atNow_68 rfl ?_
  refine k_getN C fn_X3_227 dX3_atNow_69 (by assumption) (by rfl) ?_
  refine k_isub C dX3_atNow_72 ?_
  refine k_iconst C dX3_atNow_73 ?_
  refine k_iadd C dX3_atNow_74 ?_
  refine k_idiv C dX3_atNow_75 (by omega) ?_
  refine k_iast C dX3_atNow_76 (by assumption) (by omega) (fun h9 P9 => ?_)
  have t9 := P9.2.1
  have E9 := P9.upd.ext0 E8 (by simpa using N1.1)
  have W9 := W.ext E9
  have W9c := W9.1
  refine k_astore_n C dX3_atNow_77 (Nat.le_of_ble_eq_true rfl) rfl ?_
  refine k_aload_n C dX3_atNow_78 rfl ?_
  refine k_iload_n C dX3_atNow_79 rfl ?_
  refine k_iald C dX3_atNow_80 (by assumption) (by rfl) (by omega) ?_
  have ev : ∀ fx : Int → Int, fx = (up (up (up (up (up (up (up (up (fun _ => 0) 0 ((c.n : Nat) : Int)) 1 c.st) 2 c.pl) 3 (onesC c)) 4 (runsC c)) 5 c.le) 6 c.gr) 7 (8 * onesC c / (c.gr - c.le + 1)) : Int → Int) → fx what = atC c what := by
    intro fx e
    rw [e]
    unfold atC toldC eighC
    have hs : what = 0 ∨ what = 1 ∨ what = 2 ∨ what = 3 ∨ what = 4 ∨ what = 5 ∨ what = 6 ∨ what = 7 := by omega
    rcases hs with e | e | e | e | e | e | e | e <;> subst e <;> simp [up]
  rw [ev _ rfl]
  exact k_iret C E dX3_atNow_81 (by omega) ⟨rfl, E9⟩
theorem c_mOfMachine {w : Wd} {h : Hp} {x md cs : Nat} {m : Mch} {what : Int} {fs : List Value} (hx0 : h.2 x = some (.inl (2, fs))) (G : isMd h md cs m.1 (kindN m) m.2.2.1 m.2.2.2) (hm : MchOk m) (hw : 0 ≤ what ∧ what ≤ 8) : Ct w yX3_ofMachineNow (ws_ yX3_ofMachineNow cX3_ofMachineNow 5 (some FieldType.int)) 5 106 3 1020 [.ref x, .ref md, jI what] h (fun v h' => v = some (jI (machC m (runN m.1 500 c0) what)) ∧ Ext h h') NoX := by
  have hT := hm.1
  have r1 := runN_c0 hT 500
  have hX := G.1
  refine Ct.of (by decide) [some (.ref x), some (.ref md), some (jI what), none, none] rfl (Nat.le_of_ble_eq_true rfl) (fun K C E N0 => ?_)
  refine k_iload_n C dX3_ofMachineNow_0 rfl ?_
  refine k_iconst C dX3_ofMachineNow_1 ?_
  refine k_icmp_ne C dX3_ofMachineNow_2 (tgt := 11) (by decide) (by omega) (fun g1 => ?_) (fun g2 => ?_)
  · have obC := onesC_b r1.1
    obtain ⟨⟨-, ⟨b3, b4, b5, b6, b7, b8⟩, b9, b10⟩, bn⟩ := id r1
    have ce := cntE_b m.1 (2 * m.1.1)
    have hT2 := hT.2.1
    refine k_aload_n C dX3_ofMachineNow_11 rfl ?_
    refine k_sipush C dX3_ofMachineNow_12 (by decide) ?_
    refine kx_V C rfl mv_X3_81 dX3_ofMachineNow_15 ((c_run (R := 500) (by omega) G hT)) (by assumption) rfl rfl (Nat.le_of_ble_eq_true rfl) ⟨(Nat.le_of_ble_eq_true rfl), (Nat.le_of_ble_eq_true rfl)⟩ (by omega) (fun v h0 hp_ => ?_) (fun _ _ hx => hx.elim)
    obtain ⟨q, tp, rfl, q0, tp0, W, Er⟩ := hp_
    have Gr := G.ext Er
    refine k_astore_n C dX3_ofMachineNow_18 (Nat.le_of_ble_eq_true rfl) rfl ?_
    refine k_bipush C dX3_ofMachineNow_19 (by decide) ?_
    refine k_newarr (kd := 0) (g := fun j : Nat => jI ((fun _ => 0 : Int → Int) (j : Int))) C q358 rfl rfl (fun _ => rfl) dX3_ofMachineNow_21 (by omega) (by decide) (by omega) (fun ta h1 N1 => ?_)
    have t1 : h1.2 ta = some (aI 0 9 (fun _ => 0)) := N1.2.1
    have E1 := N1.2.2.1
    have W1 := W.ext E1
    have W1c := W1.1
    have G1 := Gr.ext E1
    have G1c := G1.1
    refine k_dup C dX3_ofMachineNow_23 rfl ?_
    refine k_iconst C dX3_ofMachineNow_24 ?_
    refine k_aload_n C dX3_ofMachineNow_25 rfl ?_
    refine k_getN C fn_X3_52 dX3_ofMachineNow_26 (by assumption) (by rfl) ?_
    refine k_iast C dX3_ofMachineNow_29 (by assumption) (by omega) (fun h2 P2 => ?_)
    have t2 := P2.2.1
    have E2 := P2.upd.ext0 E1 (by simpa using N1.1)
    have W2 := W.ext E2
    have W2c := W2.1
    have G2 := Gr.ext E2
    have G2c := G2.1
    refine k_dup C dX3_ofMachineNow_30 rfl ?_
    refine k_iconst C dX3_ofMachineNow_31 ?_
    refine k_aload_n C dX3_ofMachineNow_32 rfl ?_
    refine kx_V C rfl mv_X3_78 dX3_ofMachineNow_33 ((c_mdEmpty G2 hT2)) (by assumption) rfl rfl (Nat.le_of_ble_eq_true rfl) ⟨(Nat.le_of_ble_eq_true rfl), (Nat.le_of_ble_eq_true rfl)⟩ (by omega) (fun v h2 hp_ => ?_) (fun _ _ hx => hx.elim)
    obtain ⟨rfl, rfl⟩ := hp_
    refine k_iast C dX3_ofMachineNow_36 (by assumption) (by omega) (fun h3 P3 => ?_)
    have t3 := P3.2.1
    have E3 := P3.upd.ext0 E2 (by simpa using N1.1)
    have W3 := W.ext E3
    have W3c := W3.1
    have G3 := Gr.ext E3
    have G3c := G3.1
    refine k_dup C dX3_ofMachineNow_37 rfl ?_
    refine k_iconst C dX3_ofMachineNow_38 ?_
    refine k_aload_n C dX3_ofMachineNow_39 rfl ?_
    refine k_getN C fn_X3_175 dX3_ofMachineNow_40 (by assumption) (by rfl) ?_
    refine k_iast C dX3_ofMachineNow_43 (by assumption) (by omega) (fun h4 P4 => ?_)
    have t4 := P4.2.1
    have E4 := P4.upd.ext0 E3 (by simpa using N1.1)
    have W4 := W.ext E4
    have W4c := W4.1
    have G4 := Gr.ext E4
    have G4c := G4.1
    refine k_dup C dX3_ofMachineNow_44 rfl ?_
    refine k_iconst C dX3_ofMachineNow_45 ?_
    refine k_aload_n C dX3_ofMachineNow_46 rfl ?_
    refine k_getN C fn_X3_178 dX3_ofMachineNow_47 (by assumption) (by rfl) ?_
    refine k_iast C dX3_ofMachineNow_50 (by assumption) (by omega) (fun h5 P5 => ?_)
    have t5 := P5.2.1
    have E5 := P5.upd.ext0 E4 (by simpa using N1.1)
    have W5 := W.ext E5
    have W5c := W5.1
    have G5 := Gr.ext E5
    have G5c := G5.1
    refine k_dup C dX3_ofMachineNow_51 rfl ?_
    refine k_iconst C dX3_ofMachineNow_52 ?_
    refine k_aload_n C dX3_ofMachineNow_53 rfl ?_
    refine k_getN C fn_X3_181 dX3_ofMachineNow_54 (by assumption) (by rfl) ?_
    refine k_iast C dX3_ofMachineNow_57 (by assumption) (by omega) (fun h6 P6 => ?_)
    have t6 := P6.2.1
    have E6 := P6.upd.ext0 E5 (by simpa using N1.1)
    have W6 := W.ext E6
    have W6c := W6.1
    have G6 := Gr.ext E6
    have G6c := G6.1
    refine k_dup C dX3_ofMachineNow_58 rfl ?_
    refine k_iconst C dX3_ofMachineNow_59 ?_
    refine k_iconst C dX3_ofMachineNow_60 ?_
    refine k_iast C dX3_ofMachineNow_61 (by assumption) (by omega) (fun h7 P7 => ?_)
    have t7 := P7.2.1
    have E7 := P7.upd.ext0 E6 (by simpa using N1.1)
    have W7 := W.ext E7
    have W7c := W7.1
    have G7 := Gr.ext E7
    have G7c := G7.1
    refine k_dup C dX3_ofMachineNow_62 rfl ?_
    refine k_bipush C dX3_ofMachineNow_63 (by decide) ?_
    refine k_aload_n C dX3_ofMachineNow_65 rfl ?_
    refine kx_V C rfl mv_X3_215 dX3_ofMachineNow_66 ((c_rnOnes (by omega) W7 r1.1 r1.2)) (by assumption) rfl rfl (Nat.le_of_ble_eq_true rfl) ⟨(Nat.le_of_ble_eq_true rfl), (Nat.le_of_ble_eq_true rfl)⟩ (by omega) (fun v h7 hp_ => ?_) (fun _ _ hx => hx.elim)
    obtain ⟨rfl, rfl⟩ := hp_
    refine k_iast C dX3_ofMachineNow_69 (by assumption) (by omega) (fun h8 P8 => ?_)
    have t8 := P8.2.1
    have E8 := P8.upd.ext0 E7 (by simpa using N1.1)
    have W8 := W.ext E8
    have W8c := W8.1
    have G8 := Gr.ext E8
    have G8c := G8.1
    refine k_dup C dX3_ofMachineNow_70 rfl ?_
    refine k_bipush C dX3_ofMachineNow_71 (by decide) ?_
    refine k_aload_n C dX3_ofMachineNow_73 rfl ?_
    refine k_getN C fn_X3_112 dX3_ofMachineNow_74 (by assumption) (by rfl) ?_
    refine k_iast C dX3_ofMachineNow_77 (by assumption) (by omega) (fun h9 P9 => ?_)
    have t9 := P9.2.1
    have E9 := P9.upd.ext0 E8 (by simpa using N1.1)
    have W9 := W.ext E9
    have W9c := W9.1
    have G9 := Gr.ext E9
    have G9c := G9.1
    refine k_dup C dX3_ofMachineNow_78 rfl ?_
    refine k_bipush C dX3_ofMachineNow_79 (by decide) ?_
    refine k_aload_n C dX3_ofMachineNow_81 rfl ?_
    refine k_getN C fn_X3_132 dX3_ofMachineNow_82 (by assumption) (by rfl) ?_
    refine k_abs C rfl q1555 dX3_ofMachineNow_85 (by omega) ⟨(Nat.le_of_ble_eq_true rfl), (Nat.le_of_ble_eq_true rfl)⟩ (by omega) ?_
    refine k_iast C dX3_ofMachineNow_88 (by assumption) (by omega) (fun h10 P10 => ?_)
    have t10 := P10.2.1
    have E10 := P10.upd.ext0 E9 (by simpa using N1.1)
    have W10 := W.ext E10
    have W10c := W10.1
    have G10 := Gr.ext E10
    have G10c := G10.1
    have ev : ∀ fx : Int → Int, fx = (up (up (up (up (up (up (up (up (up (fun _ => 0) 0 ((m.1.1 : Nat) : Int)) 1 (cntE m.1 (2 * m.1.1))) 2 (kindN m)) 3 m.2.2.1) 4 m.2.2.2) 5 0) 6 (onesC (runN m.1 500 c0))) 7 (((runN m.1 500 c0).n : Nat) : Int)) 8 (if 0 ≤ (runN m.1 500 c0).pl then (runN m.1 500 c0).pl else -(runN m.1 500 c0).pl) : Int → Int) → (what ≤ 5 ∨ stopB m.1 (runN m.1 500 c0) = true) → fx what = machC m (runN m.1 500 c0) what := by
      intro fx e hor
      rw [e]
      unfold machC scoreC
      have hs : what = 0 ∨ what = 1 ∨ what = 2 ∨ what = 3 ∨ what = 4 ∨ what = 6 ∨ what = 7 ∨ what = 8 := by omega
      rcases hs with e | e | e | e | e | e | e | e <;> subst e
      · simp [up]
      · simp [up]
      · simp [up]
      · simp [up]
      · simp [up]
      · have h5 : stopB m.1 (runN m.1 500 c0) = true := hor.resolve_left (by decide)
        simp [up, h5]
      · have h5 : stopB m.1 (runN m.1 500 c0) = true := hor.resolve_left (by decide)
        simp [up, h5]
      · have h5 : stopB m.1 (runN m.1 500 c0) = true := hor.resolve_left (by decide)
        simp [up, h5]
    refine k_astore C dX3_ofMachineNow_89 (Nat.le_of_ble_eq_true rfl) rfl ?_
    refine k_iload_n C dX3_ofMachineNow_91 rfl ?_
    refine k_iconst C dX3_ofMachineNow_92 ?_
    refine k_icmp_le C dX3_ofMachineNow_93 (tgt := 107) (by decide) (by omega) (fun g3 => ?_) (fun g4 => ?_)
    · refine k_aload C dX3_ofMachineNow_107 rfl ?_
      refine k_iload_n C dX3_ofMachineNow_109 rfl ?_
      refine k_iald C dX3_ofMachineNow_110 (by assumption) (by rfl) (by omega) ?_
      rw [ev _ rfl (Or.inl (by omega))]
      exact k_iret C E dX3_ofMachineNow_111 (by omega) ⟨rfl, Er.trans E10⟩
    · refine k_aload_n C dX3_ofMachineNow_96 rfl ?_
      refine kx_V C rfl mv_X3_109 dX3_ofMachineNow_97 ((c_rnStopped W10 G10 hT r1.1)) (by assumption) rfl rfl (Nat.le_of_ble_eq_true rfl) ⟨(Nat.le_of_ble_eq_true rfl), (Nat.le_of_ble_eq_true rfl)⟩ (by omega) (fun v hz hp_ => ?_) (fun _ _ hx => hx.elim)
      obtain ⟨rfl, rfl⟩ := hp_
      refine k_ifne_b C dX3_ofMachineNow_100 (tgt := 107) (by decide) (fun g5 => ?_) (fun g6 => ?_)
      · refine k_aload C dX3_ofMachineNow_107 rfl ?_
        refine k_iload_n C dX3_ofMachineNow_109 rfl ?_
        refine k_iald C dX3_ofMachineNow_110 (by assumption) (by rfl) (by omega) ?_
        rw [ev _ rfl (Or.inr g5)]
        exact k_iret C E dX3_ofMachineNow_111 (by omega) ⟨rfl, Er.trans E10⟩
      · refine k_iconst C dX3_ofMachineNow_103 ?_
        refine k_goto C dX3_ofMachineNow_104 (tgt := 111) (by decide) ?_
        have ew : (-1 : Int) = machC m (runN m.1 500 c0) what := by
          unfold machC scoreC
          rw [if_neg (by omega), if_neg (by omega), if_neg (by omega), if_neg (by omega), if_neg (by omega), if_neg g1, if_neg (by rw [g6]; decide)]
        rw [ew]
        exact k_iret C E dX3_ofMachineNow_111 (by omega) ⟨rfl, Er.trans E10⟩
  · subst g2
    refine k_aload_n C dX3_ofMachineNow_5 rfl ?_
    refine k_aload_n C dX3_ofMachineNow_6 rfl ?_
    refine kx_V C rfl mv_X3_93 dX3_ofMachineNow_7 ((c_mWays G hT)) (by assumption) rfl rfl (Nat.le_of_ble_eq_true rfl) ⟨(Nat.le_of_ble_eq_true rfl), (Nat.le_of_ble_eq_true rfl)⟩ (by omega) (fun v h1 hp_ => ?_) (fun _ _ hx => hx.elim)
    obtain ⟨rfl, E1⟩ := hp_
    exact k_iret C E dX3_ofMachineNow_10 (by omega) ⟨rfl, E1⟩
