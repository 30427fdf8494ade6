/-! ===== child ===== -/
set_option maxRecDepth 100000
def childR (T : Tb) (way : Int) : Ru := if way = 0 then (1, 1, (T.1 : Int)) else (1 - (way - 1) % 2, if (way - 1) % 4 < 2 then 1 else -1, (way - 1) / 4)
/-- the table of a child -/
def childT (T : Tb) (way : Int) : Tb := tset T (2 * (runN T 500 c0).st + (runN T 500 c0).tp (runN T 500 c0).pl) (childR T way)
def childK (σ : Sg) (m way : Int) : Nat := if mchOk σ m then (if 0 ≤ way ∧ way ≤ waysC (σ.ms m.toNat).1 (runN (σ.ms m.toNat).1 500 c0) - 1 then (if σ.n < 12 then 0 else 3) else 2) else 1
theorem childR_ok {T : Tb} (hT : TbOk T) {way : Int} (h : 0 ≤ way ∧ way ≤ 4 * reachN T) : RuOk T.1 (childR T way) := by
  have h2 : reachN T ≤ T.1 := by unfold reachN; omega
  have h1 := hT.1
  unfold childR
  split
  · exact ⟨Or.inr rfl, Or.inl rfl, by dsimp only; omega, by dsimp only; omega⟩
  · refine ⟨?_, ?_, ?_, ?_⟩
    · dsimp only; omega
    · dsimp only
      split
      · exact Or.inl rfl
      · exact Or.inr rfl
    · dsimp only; omega
    · dsimp only; omega
theorem tset_ok {T : Tb} (hT : TbOk T) {k : Int} {r : Ru} (hr : RuOk T.1 r) : TbOk (tset T k r) := by
  refine ⟨hT.1, hT.2.1, fun j s h0 h1 h2 => ?_⟩
  unfold tset at h2
  dsimp only at h2
  by_cases e : j = k
  · subst e; rw [up_at] at h2; rw [← Option.some.inj h2]; exact hr
  · rw [up_ne e] at h2; exact hT.2.2 j s h0 h1 h2
theorem hang_st {T : Tb} {c : Cf} (h : hangB T c = true) : c.st ≠ T.1 := by
  unfold hangB at h
  intro e
  rw [decide_eq_true e] at h
  cases h
theorem c_childX {w : Wd} {h : Hp} {x : Nat} {X : XL} {σ : Sg} {m way : Int} (H : isX w h x X σ) (hsep : sepX X σ.n σ.k) (hσ : SgOk σ) (hm : i32 m) (hw : i32 way) : Ct w yX1_child (ws_ yX1_child cX1_child 8 (some FieldType.int)) 10 255 12 1070 [.ref x, jI m, jI way] h (fun v h' => childK σ m way = 0 ∧ v = some (jI (σ.n : Nat)) ∧ stepX w h h' x X σ (addM σ (childT (σ.ms m.toNat).1 way, none, -1, -1))) (fun E h' => exOf [sIOB, sIAE, sISE] (childK σ m way) E ∧ Ext h h') := by
  obtain ⟨hX, ⟨f, A, F⟩, ⟨ft, At, Ft⟩, hg, M, TG⟩ := id H
  have hn := hσ.1
  have hm' := hm
  unfold i32 at hw
  unfold childK mchOk
  refine Ct.of (by decide) [some (.ref x), some (jI m), some (jI way), none, none, none, none, none] rfl (Nat.le_of_ble_eq_true rfl) (fun K C E N0 => ?_)
  refine k_aload_n C dX1_child_0 rfl ?_
  refine k_iload_n C dX1_child_1 rfl ?_
  refine kx_V C rfl mv_X1_162 dX1_child_2 ((c_machineAt H hσ hm')) (by assumption) rfl rfl (Nat.le_of_ble_eq_true rfl) ⟨(Nat.le_of_ble_eq_true rfl), (Nat.le_of_ble_eq_true rfl)⟩ (by omega) (fun v kk hp_ => ?_) (fun E1 h1 hx => x_pass C E N0 (by omega) ⟨by rw [decide_eq_false hx.1, hx.2.1]; exact ex1, hx.2.2⟩)
  obtain ⟨hin, rfl, rfl⟩ := hp_
  rw [decide_eq_true hin, if_pos rfl] at E
  have Mi := M m.toNat (by omega)
  have hok := hσ.2.2.1 m.toNat (by omega)
  obtain ⟨⟨k0, ea, -⟩, G⟩ := id Mi
  have r1 := runN_c0 hok.1 500
  have rb := reachN_b hok.1
  generalize hT0 : (σ.ms m.toNat).1 = T at *
  generalize hc0 : runN T 500 c0 = c at *
  have wb : 0 ≤ waysC T c ∧ waysC T c ≤ 17 := by unfold waysC; split <;> omega
  refine k_astore_n C dX1_child_5 (Nat.le_of_ble_eq_true rfl) rfl ?_
  refine k_aload_n C dX1_child_6 rfl ?_
  refine k_sipush C dX1_child_7 (by decide) ?_
  refine kx_S C rfl ms_X1_222 dX1_child_10 ((c_walked (R := 500) Mi hok (by omega))) rfl rfl (Nat.le_of_ble_eq_true rfl) ⟨(Nat.le_of_ble_eq_true rfl), (Nat.le_of_ble_eq_true rfl)⟩ (by omega) (fun v h2 hp_ => ?_) (fun _ _ hx => hx.elim)
  obtain ⟨q, tp, rfl, q0, tp0, W2, E2⟩ := hp_
  rw [hT0, hc0] at W2
  have ea2 := E2.2 _ _ ea
  have x2 := E2.2 _ _ hX
  have l2 := E2.2 _ _ A.1
  refine k_astore C dX1_child_13 (Nat.le_of_ble_eq_true rfl) rfl ?_
  refine k_iload_n C dX1_child_15 rfl ?_
  refine k_iconst C dX1_child_16 ?_
  refine k_aload C dX1_child_17 rfl ?_
  refine kx_S C rfl ms_X1_226 dX1_child_19 ((c_waysOf (by omega) W2 (G.ext E2) (by rw [← hT0]; exact hok.1) r1.1 r1.2)) rfl rfl (Nat.le_of_ble_eq_true rfl) ⟨(Nat.le_of_ble_eq_true rfl), (Nat.le_of_ble_eq_true rfl)⟩ (by omega) (fun v k2 hp_ => ?_) (fun _ _ hx => hx.elim)
  obtain ⟨rfl, rfl⟩ := hp_
  refine k_iconst C dX1_child_22 ?_
  refine k_isub C dX1_child_23 ?_
  refine kx_S C rfl ms_X1_170 dX1_child_24 ((c_mustBeIn (by omega))) rfl rfl (Nat.le_of_ble_eq_true rfl) ⟨(Nat.le_of_ble_eq_true rfl), (Nat.le_of_ble_eq_true rfl)⟩ (by omega) (fun v kk2 hp_ => ?_) (fun E1 h1 hx => x_pass C E N0 (by omega) ⟨by rw [if_neg hx.1, hx.2.1]; exact ex2, E2.trans hx.2.2⟩)
  obtain ⟨hin2, rfl, rfl⟩ := hp_
  rw [if_pos hin2] at E
  have hT1 : TbOk T := by rw [← hT0]; exact hok.1
  have hh : hangB T c = true := by
    cases e : hangB T c with
    | true => rfl
    | false => unfold waysC at hin2; rw [e] at hin2; simp at hin2; omega
  have hst := hang_st hh
  have ok := r1.1
  obtain ⟨⟨c1, c2⟩, ⟨c3, c4, c5, c6, c7, c8⟩, c9, c10⟩ := id ok
  have c9' := c9 c.pl
  have hway : 0 ≤ way ∧ way ≤ 4 * reachN T := by
    unfold waysC at hin2
    rw [hh, if_pos rfl] at hin2
    omega
  have rok := childR_ok hT1 hway
  refine k_aload_n C dX1_child_27 rfl ?_
  refine k_get C fg_X1_130 dX1_child_28 (by assumption) (by rfl) ?_
  refine kx_F C rfl mf_X1_56 dX1_child_31 ((c_size l2)) (by assumption) rfl rfl (Nat.le_of_ble_eq_true rfl) ⟨(Nat.le_of_ble_eq_true rfl), (Nat.le_of_ble_eq_true rfl)⟩ (by omega) (fun v kk hp_ => ?_) (fun _ _ hx => hx.elim)
  obtain ⟨rfl, rfl⟩ := hp_
  refine k_bipush C dX1_child_36 (by decide) ?_
  refine k_icmp_ge C dX1_child_38 (tgt := 45) (by decide) (by omega) (fun g1 => ?_) (fun g2 => ?_)
  · refine k_iconst C dX1_child_45 ?_
    refine kx_S C rfl ms_X1_176 dX1_child_46 ((c_checkState (b := false))) rfl rfl (Nat.le_of_ble_eq_true rfl) ⟨(Nat.le_of_ble_eq_true rfl), (Nat.le_of_ble_eq_true rfl)⟩ (by omega) (fun v k1 hp_ => ?_) (fun E1 h1 hx => x_pass C E N0 (by omega) ⟨by rw [if_neg (by omega), hx.2.1]; exact ex3, E2.trans hx.2.2⟩)
    obtain ⟨e, _, _⟩ := hp_
    cases e
  · rw [if_pos (by omega)] at E
    refine k_iconst C dX1_child_41 ?_
    refine k_goto C dX1_child_42 (tgt := 46) (by decide) ?_
    refine kx_S C rfl ms_X1_176 dX1_child_46 ((c_checkState (b := true))) rfl rfl (Nat.le_of_ble_eq_true rfl) ⟨(Nat.le_of_ble_eq_true rfl), (Nat.le_of_ble_eq_true rfl)⟩ (by omega) (fun v k1 hp_ => ?_) (fun E1 h1 hx => absurd hx.1 (by decide))
    obtain ⟨_, rfl, rfl⟩ := hp_
    have G21 := (G.ext E2).1
    refine k_aload_n C dX1_child_49 rfl ?_
    refine k_getN C fn_X1_166 dX1_child_50 (by assumption) (by rfl) ?_
    refine kx_V C rfl mv_X1_230 dX1_child_53 ((c_tbCopy (G.ext E2) hT1)) (by assumption) rfl rfl (Nat.le_of_ble_eq_true rfl) ⟨(Nat.le_of_ble_eq_true rfl), (Nat.le_of_ble_eq_true rfl)⟩ (by omega) (fun v h3 hp_ => ?_) (fun _ _ hx => hx.elim)
    obtain ⟨t2, l2', a2', rfl, t20, l20, a20, G3, E3⟩ := hp_
    have G31 := G3.1
    have E23 := E2.trans E3
    have W3 := W2.ext E3
    have tail : ∀ (hh : Hp) (ru n k : Nat), Ext h3 hh → isRu hh ru (childR T way) → n ≤ 9 → k ≤ 1048 → Wk w K hh n k 114 [some (.ref x), some (jI m), some (jI way), some (.ref (X.A m.toNat).1), some (.ref q), some (.ref t2), some (jI (way - 1)), none] [.ref ru] := by
      intro hh ru n k E4 R4 hn4 hk4
      have W4 := W3.ext E4
      have W41 := W4.1
      have G4 := G3.ext E4
      have G41 := G4.1
      refine k_astore C dX1_child_114 (Nat.le_of_ble_eq_true rfl) rfl ?_
      refine k_aload C dX1_child_116 rfl ?_
      refine k_aload C dX1_child_118 rfl ?_
      refine k_getN C fn_X1_234 dX1_child_120 (by assumption) (by rfl) ?_
      refine k_aload C dX1_child_123 rfl ?_
      refine k_aload C dX1_child_125 rfl ?_
      refine k_getN C fn_X1_18 dX1_child_127 (by assumption) (by rfl) ?_
      refine kx_V C rfl mv_X1_237 dX1_child_130 ((c_wkSymbol (by omega) W4 ok r1.2 (by omega))) (by assumption) rfl rfl (Nat.le_of_ble_eq_true rfl) ⟨(Nat.le_of_ble_eq_true rfl), (Nat.le_of_ble_eq_true rfl)⟩ (by omega) (fun v k5 hp_ => ?_) (fun _ _ hx => hx.elim)
      obtain ⟨rfl, rfl⟩ := hp_
      refine k_aload C dX1_child_133 rfl ?_
      refine kx_V C rfl mv_X1_205 dX1_child_135 ((c_tbSet G4 hT1.2.1 (by omega) (by omega) R4)) (by assumption) rfl rfl (Nat.le_of_ble_eq_true rfl) ⟨(Nat.le_of_ble_eq_true rfl), (Nat.le_of_ble_eq_true rfl)⟩ (by omega) (fun v h6 hp_ => ?_) (fun _ _ hx => hx.elim)
      obtain ⟨rfl, G6, U6⟩ := hp_
      have E04 := E23.trans E4
      have E6 : Ext kk h6 := U6.ext0 E04 (by simpa using E2.old a20)
      have x6 := E6.2 _ _ hX
      refine k_aload_n C dX1_child_138 rfl ?_
      refine k_get C fg_X1_130 dX1_child_139 (by assumption) (by rfl) ?_
      refine k_new C nw_X1_160 dX1_child_142 (by omega) (fun a h7 N7 => ?_)
      have a7 := N7.2.1
      refine k_dup C dX1_child_145 rfl ?_
      refine k_aload C dX1_child_146 rfl ?_
      refine kx_I C rfl mi_X1_182 dX1_child_148 ((c_mcInit (G6.ext N7.2.2.1) a7)) rfl rfl (Nat.le_of_ble_eq_true rfl) ⟨(Nat.le_of_ble_eq_true rfl), (Nat.le_of_ble_eq_true rfl)⟩ (by omega) (fun v h8 hp_ => ?_) (fun _ _ hx => hx.elim)
      obtain ⟨rfl, M8, U8⟩ := hp_
      have a0 : kk.2 a = none := E6.old N7.1
      have E7 := E6.trans N7.2.2.1
      have E8 := U8.ext0 E7 (by simpa using a0)
      have A8 := A.ext E8
      have l8 := A8.1
      obtain ⟨⟨k8, a8, k8o⟩, G8⟩ := id M8
      have el : isEl h8 σ.n f := fun j j0 j1 => by
        have hj := F j.toNat (by omega)
        rw [show ((j.toNat : Nat) : Int) = j by omega] at hj
        obtain ⟨⟨kj, ej, -⟩, -⟩ := M j.toNat (by omega)
        exact ⟨_, _, hj, E8.2 _ _ ej, rfl⟩
      have hcm := hsep.1.1
      have hlt : X.cm ≤ 15 := by
        rw [hcm]
        have : ∀ n, n < 12 → capOf n ≤ 15 := by decide
        exact this σ.n (by omega)
      have hcost : gcC σ.n X.cm ≤ 1 ∧ gcS σ.n X.cm ≤ 15 := by
        rw [hcm]
        have : ∀ n, n < 12 → gcC n (capOf n) ≤ 1 ∧ gcS n (capOf n) ≤ 15 := by decide
        exact this σ.n (by omega)
      have al : a ≠ X.lm := ne_some a0 A.1
      have aa : a ≠ X.am := ne_some a0 A.2.1
      refine kx_F C rfl mf_X1_50 dX1_child_151 ((c_add A8 (by omega) el a8 rfl al aa)) (by assumption) rfl rfl (Nat.le_of_ble_eq_true rfl) ⟨(Nat.le_of_ble_eq_true rfl), (Nat.le_of_ble_eq_true rfl)⟩ (by omega) (fun v h9 hp_ => ?_) (fun _ _ hx => hx.elim)
      obtain ⟨rfl, q9, g', r1', r2, r3, r4⟩ := hp_
      have l9 := r1'.1
      have x9 : h9.2 x = some (.inl (0, [.ref X.lm, .ref X.lt, .ref X.g])) := by
        have x8 := E8.2 _ _ hX
        rcases r4 with ⟨-, -, u⟩ | ⟨-, -, u⟩
        · exact u.2 _ _ x8 (by simp [ne_cel x8 A8.1 (ne_cls (by decide)), ne_cel x8 A8.2.1 ne_ao])
        · exact u.2 _ _ x8 (by simp [ne_cel x8 A8.1 (ne_cls (by decide))])
      refine k_pop C dX1_child_156 rfl ?_
      refine k_aload_n C dX1_child_157 rfl ?_
      refine k_get C fg_X1_130 dX1_child_158 (by assumption) (by rfl) ?_
      refine kx_F C rfl mf_X1_56 dX1_child_161 ((c_size l9)) (by assumption) rfl rfl (Nat.le_of_ble_eq_true rfl) ⟨(Nat.le_of_ble_eq_true rfl), (Nat.le_of_ble_eq_true rfl)⟩ (by omega) (fun v k9 hp_ => ?_) (fun _ _ hx => hx.elim)
      obtain ⟨rfl, rfl⟩ := hp_
      refine k_iconst C dX1_child_166 ?_
      refine k_isub C dX1_child_167 ?_
      rw [show ((σ.n + 1 : Nat) : Int) - 1 = (σ.n : Nat) by omega]
      have st := add_step (m := (childT T way, none, -1, -1)) H hsep E8 (by unfold childT; rw [hc0]; exact M8) a0 (E2.old l20) (E2.old a20) r1' (fun i hi => by rw [r2 i (by omega) (by omega)]; exact F i hi) r3 r4
      exact k_iret C E dX1_child_168 (by omega) ⟨rfl, rfl, st⟩
    refine k_astore C dX1_child_56 (Nat.le_of_ble_eq_true rfl) rfl ?_
    refine k_iload_n C dX1_child_58 rfl ?_
    refine k_iconst C dX1_child_59 ?_
    refine k_isub C dX1_child_60 ?_
    refine k_istore C dX1_child_61 (Nat.le_of_ble_eq_true rfl) rfl ?_
    refine k_iload_n C dX1_child_63 rfl ?_
    refine k_if_ne C dX1_child_64 (tgt := 84) (by decide) (by omega) (fun g3 => ?_) (fun g4 => ?_)
    · refine k_new C nw_X1_107 dX1_child_84 (by omega) (fun ru h4 N4 => ?_)
      have ru4 := N4.2.1
      refine k_dup C dX1_child_87 rfl ?_
      refine k_iconst C dX1_child_88 ?_
      refine k_iload C dX1_child_89 rfl ?_
      refine k_iconst C dX1_child_91 ?_
      refine k_irem C dX1_child_92 (by omega) ?_
      have hin4 : 0 ≤ way - 1 := by omega
      refine k_isub C dX1_child_93 ?_
      refine k_iload C dX1_child_94 rfl ?_
      refine k_iconst C dX1_child_96 ?_
      refine k_irem C dX1_child_97 (by omega) ?_
      refine k_iconst C dX1_child_98 ?_
      refine k_icmp_ge C dX1_child_99 (tgt := 106) (by decide) (by omega) (fun g5 => ?_) (fun g6 => ?_)
      · refine k_iconst C dX1_child_106 ?_
        refine k_iload C dX1_child_107 rfl ?_
        refine k_iconst C dX1_child_109 ?_
        refine k_idiv C dX1_child_110 (by omega) ?_
        refine kx_I C rfl mi_X1_174 dX1_child_111 ((c_ruInit ru4)) rfl rfl (Nat.le_of_ble_eq_true rfl) ⟨(Nat.le_of_ble_eq_true rfl), (Nat.le_of_ble_eq_true rfl)⟩ (by omega) (fun v h5 hp_ => ?_) (fun _ _ hx => hx.elim)
        obtain ⟨rfl, P5⟩ := hp_
        exact Wk.sub (by repeat (first | exact trivial | apply Lle.so | apply Lle.no)) (tail h5 ru _ _ (P5.upd.ext0 N4.2.2.1 (by simpa using N4.1)) (by unfold isRu; rw [show childR T way = (1 - (way - 1) % 2, -1, (way - 1) / 4) by unfold childR; rw [if_neg g3, if_neg (by omega)]]; exact P5.2.1) (by omega) (by omega))
      · refine k_iconst C dX1_child_102 ?_
        refine k_goto C dX1_child_103 (tgt := 107) (by decide) ?_
        refine k_iload C dX1_child_107 rfl ?_
        refine k_iconst C dX1_child_109 ?_
        refine k_idiv C dX1_child_110 (by omega) ?_
        refine kx_I C rfl mi_X1_174 dX1_child_111 ((c_ruInit ru4)) rfl rfl (Nat.le_of_ble_eq_true rfl) ⟨(Nat.le_of_ble_eq_true rfl), (Nat.le_of_ble_eq_true rfl)⟩ (by omega) (fun v h5 hp_ => ?_) (fun _ _ hx => hx.elim)
        obtain ⟨rfl, P5⟩ := hp_
        exact Wk.sub (by repeat (first | exact trivial | apply Lle.so | apply Lle.no)) (tail h5 ru _ _ (P5.upd.ext0 N4.2.2.1 (by simpa using N4.1)) (by unfold isRu; rw [show childR T way = (1 - (way - 1) % 2, 1, (way - 1) / 4) by unfold childR; rw [if_neg g3, if_pos (by omega)]]; exact P5.2.1) (by omega) (by omega))
    · refine k_new C nw_X1_107 dX1_child_67 (by omega) (fun ru h4 N4 => ?_)
      have ru4 := N4.2.1
      have t4 := N4.2.2.1.2 _ _ G31
      refine k_dup C dX1_child_70 rfl ?_
      refine k_iconst C dX1_child_71 ?_
      refine k_iconst C dX1_child_72 ?_
      refine k_aload C dX1_child_73 rfl ?_
      refine k_getN C fn_X1_73 dX1_child_75 (by assumption) (by rfl) ?_
      refine kx_I C rfl mi_X1_174 dX1_child_78 ((c_ruInit ru4)) rfl rfl (Nat.le_of_ble_eq_true rfl) ⟨(Nat.le_of_ble_eq_true rfl), (Nat.le_of_ble_eq_true rfl)⟩ (by omega) (fun v h5 hp_ => ?_) (fun _ _ hx => hx.elim)
      obtain ⟨rfl, P5⟩ := hp_
      refine k_goto C dX1_child_81 (tgt := 114) (by decide) ?_
      exact Wk.sub (by repeat (first | exact trivial | apply Lle.so | apply Lle.no)) (tail h5 ru _ _ (P5.upd.ext0 N4.2.2.1 (by simpa using N4.1)) (by unfold isRu; rw [show childR T way = (1, 1, (T.1 : Int)) by unfold childR; rw [if_pos g4]]; exact P5.2.1) (by omega) (by omega))
