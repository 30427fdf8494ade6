/-! ===== the model: decide ===== -/
set_option maxRecDepth 100000
theorem c_mDecide {w : Wd} {h : Hp} {a cs : Nat} {T : Tb} {kv av bv k x y : Int} (H : isMd h a cs T kv av bv) : Ct w yX3_decide (ws_ yX3_decide cX3_decide 4 none) 0 0 0 0 [.ref a, jI k, jI x, jI y] h (fun v h' => v = none ∧ Put h h' a (.inl (5, [jI (T.1 : Nat), .ref cs, jI k, jI x, jI y]))) NoX := by
  have h1 := H.1
  refine Ct.of (by decide) [some (.ref a), some (jI k), some (jI x), some (jI y)] rfl (Nat.le_of_ble_eq_true rfl) (fun K C E N0 => ?_)
  refine k_aload_n C dX3_decide_0 rfl ?_
  refine k_iload_n C dX3_decide_1 rfl ?_
  refine k_putN C fn_X3_175 ft_5_2 dX3_decide_2 (by assumption) rfl rfl rfl (fun g2 P2 => ?_)
  have a2 := P2.2.1
  refine k_aload_n C dX3_decide_5 rfl ?_
  refine k_iload_n C dX3_decide_6 rfl ?_
  refine k_putN C fn_X3_178 ft_5_3 dX3_decide_7 (by assumption) rfl rfl rfl (fun g3 P3 => ?_)
  have a3 := P3.2.1
  refine k_aload_n C dX3_decide_10 rfl ?_
  refine k_iload_n C dX3_decide_11 rfl ?_
  refine k_putN C fn_X3_181 ft_5_4 dX3_decide_12 (by assumption) rfl rfl rfl (fun g4 P4 => ?_)
  exact k_vret C E dX3_decide_15 (by omega) ⟨rfl, (P2.trans P3).trans P4⟩
theorem isMd.dec {h h' : Hp} {a cs : Nat} {T : Tb} {kv av bv k x y : Int} (H : isMd h a cs T kv av bv) (P : Put h h' a (.inl (5, [jI (T.1 : Nat), .ref cs, jI k, jI x, jI y]))) : isMd h' a cs T k x y := by
  obtain ⟨e1, f, e2, e3⟩ := H
  exact ⟨P.2.1, f, P.2.2 _ _ e2 (ne_cel e2 e1 ne_oa), fun j j0 j1 => (e3 j j0 j1).keep P.upd (fun q hq n g _ e => by
    rw [show q = a by simpa using hq, e1] at e
    cases e)⟩
theorem mdec_step {w : Wd} {h hM h' : Hp} {m i : Nat} {L : ML} {σ : Sg} {th : Int} {s : Int64} {mc : Mch} (H : isMo w h m L σ th s) (hsep : sepM L σ.n σ.k) (hi : i < σ.n) (E : Ext h hM) (e1 : mc.1 = (σ.ms i).1) (P : Put hM h' (L.A i).1 (.inl (5, [jI ((σ.ms i).1.1 : Nat), .ref (L.A i).2, jI (kindN mc), jI mc.2.2.1, jI mc.2.2.2]))) : stepM w h h' m L σ (putG σ i mc σ.tk σ.rf σ.bk) th s := by
  have HM := H.ext E
  have M := HM.2.2.2.1 i hi
  have Mn := M.dec P
  rw [← e1] at Mn
  exact mput_step H hsep hi E P.upd (fun y hy => Or.inr (Or.inl (by simpa using hy))) Mn (P.2.2 _ _ HM.1 (ne_cel HM.1 M.1 (ne_cls (by decide))))
theorem c_mDecideX {w : Wd} {h : Hp} {m : Nat} {L : ML} {σ : Sg} {th i : Int} {s : Int64} (H : isMo w h m L σ th s) (hsep : sepM L σ.n σ.k) (hσ : SgOk σ) (hi : i32 i) : Ct w yX3_decide_2 (ws_ yX3_decide_2 cX3_decide_2 7 (some FieldType.int)) 11 284 2277 43939 [.ref m, jI i] h (fun r h' => ∃ z : Int, r = some (jI z) ∧ (decK σ i = 0 → z = kindN (decM (σ.ms i.toNat)) ∧ stepM w h h' m L σ (putG σ i.toNat (decM (σ.ms i.toNat)) σ.tk σ.rf σ.bk) 0 s) ∧ (decK σ i ≠ 0 → stepM w h h' m L σ σ (decK σ i : Nat) s)) NoX := by
  have hm := H.1
  have mkn := mk_num
  unfold decK
  refine Ct.of (by decide) [some (.ref m), some (jI i), none, none, none, none, none] rfl (Nat.le_of_ble_eq_true rfl) (fun K C E N0 => ?_)
  refine k_aload_n C dX3_decide_2_0 rfl ?_
  refine k_iconst C dX3_decide_2_1 ?_
  refine k_put C fg_X3_19 ft_2_0 dX3_decide_2_2 (by assumption) rfl rfl rfl (fun h1 P1 => ?_)
  have H1 := H.own P1
  have hm1 := H1.1
  have U1 := P1.upd
  have hmn : h.2 m ≠ none := by rw [hm]; exact fun z => by cases z
  refine k_aload_n C dX3_decide_2_5 rfl ?_
  refine k_iload_n C dX3_decide_2_6 rfl ?_
  refine kx_V C rfl mv_X3_44 dX3_decide_2_7 ((c_mIsMachine H1 hσ hi)) (by assumption) rfl rfl (Nat.le_of_ble_eq_true rfl) ⟨(Nat.le_of_ble_eq_true rfl), (Nat.le_of_ble_eq_true rfl)⟩ (by omega) (fun v k1 hp_ => ?_) (fun _ _ hx => hx.elim)
  obtain ⟨rfl, rfl⟩ := hp_
  cases hok : mchOk σ i with
  | false =>
    refine k_ifne_b C dX3_decide_2_10 (tgt := 19) (by decide) (fun z => by cases z) (fun _ => ?_)
    rw [hok] at E
    refine k_aload_n C dX3_decide_2_13 rfl ?_
    refine k_iconst C dX3_decide_2_14 ?_
    refine kx_V C rfl mv_X3_31 dX3_decide_2_15 ((c_mRefuse (z := 1) H1)) (by assumption) rfl rfl (Nat.le_of_ble_eq_true rfl) ⟨(Nat.le_of_ble_eq_true rfl), (Nat.le_of_ble_eq_true rfl)⟩ (by omega) (fun v h2 hp_ => ?_) (fun _ _ hx => hx.elim)
    obtain ⟨rfl, H2, U2⟩ := hp_
    exact k_iret C E dX3_decide_2_18 (by omega) ⟨0, rfl, fun z => (by cases z), fun _ => q_step H2 hsep (U1.trans U2 (fun x hx => Or.inl hx))⟩
  | true =>
    refine k_ifne_b C dX3_decide_2_10 (tgt := 19) (by decide) (fun _ => ?_) (fun z => by cases z)
    rw [hok, if_pos rfl] at E
    obtain ⟨f, A, hin, hf, M⟩ := H1.at hok
    have mok := hσ.2.2.1 i.toNat (by omega)
    have hki := kindN_i32 mok
    unfold i32 at hki
    have ks := kindN_some (σ.ms i.toNat)
    have l1 := A.1
    have M1 := M.1
    refine k_aload_n C dX3_decide_2_19 rfl ?_
    refine k_get C fg_X3_10 dX3_decide_2_20 (by assumption) (by rfl) ?_
    refine k_iload_n C dX3_decide_2_23 rfl ?_
    refine kx_V C rfl mv_X3_48 dX3_decide_2_24 ((c_get A hin hf)) (by assumption) rfl rfl (Nat.le_of_ble_eq_true rfl) ⟨(Nat.le_of_ble_eq_true rfl), (Nat.le_of_ble_eq_true rfl)⟩ (by omega) (fun v k1 hp_ => ?_) (fun _ _ hx => hx.elim)
    obtain ⟨rfl, rfl⟩ := hp_
    refine k_castO C ck_X3_35_5 dX3_decide_2_27 (by assumption) ?_
    refine k_astore_n C dX3_decide_2_30 (Nat.le_of_ble_eq_true rfl) rfl ?_
    refine k_aload_n C dX3_decide_2_31 rfl ?_
    refine k_getN C fn_X3_175 dX3_decide_2_32 (by assumption) (by rfl) ?_
    refine k_iconst C dX3_decide_2_35 ?_
    refine k_icmp_eq C dX3_decide_2_36 (tgt := 45) (by decide) (by omega) (fun g1 => ?_) (fun g2 => ?_)
    · rw [decide_eq_false (fun z => z g1)] at ks
      rw [← ks] at E
      have r1 := runN_c0 mok.1 500
      refine k_aload_n C dX3_decide_2_45 rfl ?_
      refine k_sipush C dX3_decide_2_46 (by decide) ?_
      refine kx_V C rfl mv_X3_81 dX3_decide_2_49 ((c_run (R := 500) (by omega) M mok.1)) (by assumption) rfl rfl (Nat.le_of_ble_eq_true rfl) ⟨(Nat.le_of_ble_eq_true rfl), (Nat.le_of_ble_eq_true rfl)⟩ (by omega) (fun v h2 hp_ => ?_) (fun _ _ hx => hx.elim)
      obtain ⟨q, tp, rfl, q0, tp0, W2, E2⟩ := hp_
      refine k_astore_n C dX3_decide_2_52 (Nat.le_of_ble_eq_true rfl) rfl ?_
      refine k_aload_n C dX3_decide_2_53 rfl ?_
      refine k_bipush C dX3_decide_2_54 (by decide) ?_
      refine kx_S C rfl ms_X3_201 dX3_decide_2_56 ((c_mCycleNow (b := 30) (M.ext E2) mok.1 (by omega))) rfl rfl (Nat.le_of_ble_eq_true rfl) ⟨(Nat.le_of_ble_eq_true rfl), (Nat.le_of_ble_eq_true rfl)⟩ (by omega) (fun v h3 hp_ => ?_) (fun _ _ hx => hx.elim)
      obtain ⟨rfl, E3⟩ := hp_
      have E23 := E2.trans E3
      refine k_istore C dX3_decide_2_59 (Nat.le_of_ble_eq_true rfl) rfl ?_
      refine k_aload_n C dX3_decide_2_61 rfl ?_
      refine kx_S C rfl ms_X3_205 dX3_decide_2_62 ((c_mBackNow (M.ext E23) mok.1)) rfl rfl (Nat.le_of_ble_eq_true rfl) ⟨(Nat.le_of_ble_eq_true rfl), (Nat.le_of_ble_eq_true rfl)⟩ (by omega) (fun v h4 hp_ => ?_) (fun _ _ hx => hx.elim)
      obtain ⟨rfl, E4⟩ := hp_
      have E24 := E23.trans E4
      refine k_istore C dX3_decide_2_65 (Nat.le_of_ble_eq_true rfl) rfl ?_
      refine k_aload_n C dX3_decide_2_67 rfl ?_
      refine kx_S C rfl ms_X3_208 dX3_decide_2_68 ((c_mGramNow (M.ext E24) mok.1)) rfl rfl (Nat.le_of_ble_eq_true rfl) ⟨(Nat.le_of_ble_eq_true rfl), (Nat.le_of_ble_eq_true rfl)⟩ (by omega) (fun v h5 hp_ => ?_) (fun _ _ hx => hx.elim)
      obtain ⟨rfl, E5⟩ := hp_
      have E25 := E24.trans E5
      have M5 := M.ext E25
      have M51 := M5.1
      have W5 := ((W2.ext E3).ext E4).ext E5
      have W51 := W5.1
      have cr := cycNow_r (T := (σ.ms i.toNat).1) (b := 30) (by omega)
      have br := backNow_r (T := (σ.ms i.toNat).1)
      have gr := gramNow_r (T := (σ.ms i.toNat).1)
      have fin : ∀ (h' : Hp) (n k : Nat) (mc : Mch), mc = decM (σ.ms i.toNat) → n ≤ 2277 → k ≤ 43939 → (∃ x y, h'.2 (L.A i.toNat).1 = some (.inl (5, [x, y, jI (kindN mc), jI mc.2.2.1, jI mc.2.2.2]))) → stepM w k1 h' m L σ (putG σ i.toNat mc σ.tk σ.rf σ.bk) 0 s → Wk w K h' n k 150 [some (.ref m), some (jI i), some (.ref (L.A i.toNat).1), none, none, none, none] [] := by
        intro h' n k mc hmc hn hk ha st
        obtain ⟨x, y, ha'⟩ := ha
        subst hmc
        refine k_aload_n C dX3_decide_2_150 rfl ?_
        refine k_getN C fn_X3_175 dX3_decide_2_151 (by assumption) (by rfl) ?_
        exact k_iret C E dX3_decide_2_154 (by omega) ⟨_, rfl, fun _ => ⟨rfl, st.pre P1 hmn⟩, fun z => absurd rfl z⟩
      refine k_istore C dX3_decide_2_71 (Nat.le_of_ble_eq_true rfl) rfl ?_
      refine k_aload_n C dX3_decide_2_73 rfl ?_
      refine kx_V C rfl mv_X3_109 dX3_decide_2_74 ((c_rnStopped W5 M5 mok.1 r1.1)) (by assumption) rfl rfl (Nat.le_of_ble_eq_true rfl) ⟨(Nat.le_of_ble_eq_true rfl), (Nat.le_of_ble_eq_true rfl)⟩ (by omega) (fun v k6 hp_ => ?_) (fun _ _ hx => hx.elim)
      obtain ⟨rfl, rfl⟩ := hp_
      have dm : ∀ (m' : Mch), (if stopB (σ.ms i.toNat).1 (runN (σ.ms i.toNat).1 500 c0) then ((σ.ms i.toNat).1, some 0, ((runN (σ.ms i.toNat).1 500 c0).n : Int), 0) else if cycNow (σ.ms i.toNat).1 30 ≠ -1 then ((σ.ms i.toNat).1, some 1, cycNow (σ.ms i.toNat).1 30 / 200, cycNow (σ.ms i.toNat).1 30 % 200) else if backNow (σ.ms i.toNat).1 ≠ -1 then ((σ.ms i.toNat).1, some 2, backNow (σ.ms i.toNat).1, 0) else if gramNow (σ.ms i.toNat).1 ≠ -1 then ((σ.ms i.toNat).1, some 3, gramNow (σ.ms i.toNat).1, 0) else (σ.ms i.toNat)) = m' → m' = decM (σ.ms i.toNat) := fun m' e => e.symm
      refine k_ifeq_b C dX3_decide_2_77 (tgt := 93) (by decide) (fun g3 => ?_) (fun g4 => ?_)
      · rw [show stopB (σ.ms i.toNat).1 (runN (σ.ms i.toNat).1 500 c0) = false from g3] at dm
        simp only [Bool.false_eq_true, if_false] at dm
        refine k_iload C dX3_decide_2_93 rfl ?_
        refine k_iconst C dX3_decide_2_95 ?_
        refine k_icmp_eq C dX3_decide_2_96 (tgt := 119) (by decide) (by omega) (fun g5 => ?_) (fun g6 => ?_)
        · simp only [g5, ne_eq, not_true_eq_false, if_false] at dm
          refine k_iload C dX3_decide_2_119 rfl ?_
          refine k_iconst C dX3_decide_2_121 ?_
          refine k_icmp_eq C dX3_decide_2_122 (tgt := 136) (by decide) (by omega) (fun g7 => ?_) (fun g8 => ?_)
          · simp only [g7, ne_eq, not_true_eq_false, if_false] at dm
            refine k_iload C dX3_decide_2_136 rfl ?_
            refine k_iconst C dX3_decide_2_138 ?_
            refine k_icmp_eq C dX3_decide_2_139 (tgt := 150) (by decide) (by omega) (fun g9 => ?_) (fun g10 => ?_)
            · simp only [g9, ne_eq, not_true_eq_false, if_false] at dm
              exact Wk.sub (by repeat (first | exact trivial | apply Lle.so | apply Lle.no)) (fin k6 _ _ (σ.ms i.toNat) (dm _ rfl) (by omega) (by omega) ⟨_, _, M51⟩ (by rw [putG_same]; exact ⟨L, H1.ext E25, hsep, E25.updP _, fun _ hq => Or.inl hq⟩))
            · simp only [g10, ne_eq, not_false_eq_true, if_true] at dm
              refine k_aload_n C dX3_decide_2_142 rfl ?_
              refine k_iconst C dX3_decide_2_143 ?_
              refine k_iload C dX3_decide_2_144 rfl ?_
              refine k_iconst C dX3_decide_2_146 ?_
              refine kx_S C rfl ms_X3_197 dX3_decide_2_147 ((c_mDecide M5)) rfl rfl (Nat.le_of_ble_eq_true rfl) ⟨(Nat.le_of_ble_eq_true rfl), (Nat.le_of_ble_eq_true rfl)⟩ (by omega) (fun v k7 hp_ => ?_) (fun _ _ hx => hx.elim)
              obtain ⟨rfl, P7⟩ := hp_
              exact Wk.sub (by repeat (first | exact trivial | apply Lle.so | apply Lle.no)) (fin k7 _ _ _ (dm _ rfl) (by omega) (by omega) ⟨_, _, P7.2.1⟩ (mdec_step (mc := ((σ.ms i.toNat).1, some 3, gramNow (σ.ms i.toNat).1, 0)) H1 hsep (by omega) E25 rfl P7))
          · simp only [g8, ne_eq, not_false_eq_true, if_true] at dm
            refine k_aload_n C dX3_decide_2_125 rfl ?_
            refine k_iconst C dX3_decide_2_126 ?_
            refine k_iload C dX3_decide_2_127 rfl ?_
            refine k_iconst C dX3_decide_2_129 ?_
            refine kx_S C rfl ms_X3_197 dX3_decide_2_130 ((c_mDecide M5)) rfl rfl (Nat.le_of_ble_eq_true rfl) ⟨(Nat.le_of_ble_eq_true rfl), (Nat.le_of_ble_eq_true rfl)⟩ (by omega) (fun v k7 hp_ => ?_) (fun _ _ hx => hx.elim)
            obtain ⟨rfl, P7⟩ := hp_
            refine k_goto C dX3_decide_2_133 (tgt := 150) (by decide) ?_
            exact Wk.sub (by repeat (first | exact trivial | apply Lle.so | apply Lle.no)) (fin k7 _ _ _ (dm _ rfl) (by omega) (by omega) ⟨_, _, P7.2.1⟩ (mdec_step (mc := ((σ.ms i.toNat).1, some 2, backNow (σ.ms i.toNat).1, 0)) H1 hsep (by omega) E25 rfl P7))
        · simp only [g6, ne_eq, not_false_eq_true, if_true] at dm
          refine k_aload_n C dX3_decide_2_99 rfl ?_
          refine k_iconst C dX3_decide_2_100 ?_
          refine k_iload C dX3_decide_2_101 rfl ?_
          refine k_sipush C dX3_decide_2_103 (by decide) ?_
          refine k_idiv C dX3_decide_2_106 (by omega) ?_
          refine k_iload C dX3_decide_2_107 rfl ?_
          refine k_sipush C dX3_decide_2_109 (by decide) ?_
          refine k_irem C dX3_decide_2_112 (by omega) ?_
          refine kx_S C rfl ms_X3_197 dX3_decide_2_113 ((c_mDecide M5)) rfl rfl (Nat.le_of_ble_eq_true rfl) ⟨(Nat.le_of_ble_eq_true rfl), (Nat.le_of_ble_eq_true rfl)⟩ (by omega) (fun v k7 hp_ => ?_) (fun _ _ hx => hx.elim)
          obtain ⟨rfl, P7⟩ := hp_
          refine k_goto C dX3_decide_2_116 (tgt := 150) (by decide) ?_
          exact Wk.sub (by repeat (first | exact trivial | apply Lle.so | apply Lle.no)) (fin k7 _ _ _ (dm _ rfl) (by omega) (by omega) ⟨_, _, P7.2.1⟩ (mdec_step (mc := ((σ.ms i.toNat).1, some 1, cycNow (σ.ms i.toNat).1 30 / 200, cycNow (σ.ms i.toNat).1 30 % 200)) H1 hsep (by omega) E25 rfl P7))
      · rw [show stopB (σ.ms i.toNat).1 (runN (σ.ms i.toNat).1 500 c0) = true from g4] at dm
        simp only [if_true] at dm
        refine k_aload_n C dX3_decide_2_80 rfl ?_
        refine k_iconst C dX3_decide_2_81 ?_
        refine k_aload_n C dX3_decide_2_82 rfl ?_
        refine k_getN C fn_X3_112 dX3_decide_2_83 (by assumption) (by rfl) ?_
        refine k_iconst C dX3_decide_2_86 ?_
        refine kx_S C rfl ms_X3_197 dX3_decide_2_87 ((c_mDecide M5)) rfl rfl (Nat.le_of_ble_eq_true rfl) ⟨(Nat.le_of_ble_eq_true rfl), (Nat.le_of_ble_eq_true rfl)⟩ (by omega) (fun v k7 hp_ => ?_) (fun _ _ hx => hx.elim)
        obtain ⟨rfl, P7⟩ := hp_
        refine k_goto C dX3_decide_2_90 (tgt := 150) (by decide) ?_
        exact Wk.sub (by repeat (first | exact trivial | apply Lle.so | apply Lle.no)) (fin k7 _ _ _ (dm _ rfl) (by omega) (by omega) ⟨_, _, P7.2.1⟩ (mdec_step (mc := ((σ.ms i.toNat).1, some 0, ((runN (σ.ms i.toNat).1 500 c0).n : Int), 0)) H1 hsep (by omega) E25 rfl P7))
    · rw [decide_eq_true g2] at ks
      rw [← ks] at E
      refine k_aload_n C dX3_decide_2_39 rfl ?_
      refine k_iconst C dX3_decide_2_40 ?_
      refine kx_V C rfl mv_X3_31 dX3_decide_2_41 ((c_mRefuse (z := 2) H1)) (by assumption) rfl rfl (Nat.le_of_ble_eq_true rfl) ⟨(Nat.le_of_ble_eq_true rfl), (Nat.le_of_ble_eq_true rfl)⟩ (by omega) (fun v h2 hp_ => ?_) (fun _ _ hx => hx.elim)
      obtain ⟨rfl, H2, U2⟩ := hp_
      exact k_iret C E dX3_decide_2_44 (by omega) ⟨0, rfl, fun z => (by cases z), fun _ => q_step H2 hsep (U1.trans U2 (fun x hx => Or.inl hx))⟩
