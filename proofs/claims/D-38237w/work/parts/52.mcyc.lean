/-! ===== the model's cycles ===== -/
set_option maxRecDepth 100000
theorem cycB_of {T : Tb} (hT : TbOk T) {a b : Nat} (h : ¬ cycP T a b) : cycB T a b = false := by
  cases e : cycB T a b with
  | false => rfl
  | true => exact absurd ((cycB_iff hT).mp e) h
theorem c_mIsCycle {w : Wd} {h : Hp} {md cs a b : Nat} {T : Tb} {kv av bv : Int} (G : isMd h md cs T kv av bv) (hT : TbOk T) (hab : a + b < 900) (hb : 1 ≤ b) : Ct w yX3_isCycle (ws_ yX3_isCycle cX3_isCycle 11 (some FieldType.boolean)) 4 85 4 (22 + 2 * a + 2 * (a + b)) [.ref md, jI (a : Nat), jI (b : Nat)] h (fun v h' => v = some (jI (b2i (cycB T a b))) ∧ Ext h h') NoX := by
  have G1 := G.1
  have ra := runN_c0 hT a
  have rb := runN_c0 hT (a + b)
  refine Ct.of (by decide) [some (.ref md), some (jI (a : Nat)), some (jI (b : Nat)), none, none, none, none, none, none, none, none] rfl (Nat.le_of_ble_eq_true rfl) (fun K C E N0 => ?_)
  refine k_aload_n C dX3_isCycle_0 rfl ?_
  refine k_iload_n C dX3_isCycle_1 rfl ?_
  refine kx_V C rfl mv_X3_81 dX3_isCycle_2 ((c_run (R := a) (by omega) G hT)) (by assumption) rfl rfl (Nat.le_of_ble_eq_true rfl) ⟨(Nat.le_of_ble_eq_true rfl), (Nat.le_of_ble_eq_true rfl)⟩ (by omega) (fun v h1 hp_ => ?_) (fun _ _ hx => hx.elim)
  obtain ⟨q, tp, rfl, q0, tp0, W1, E1⟩ := hp_
  refine k_astore_n C dX3_isCycle_5 (Nat.le_of_ble_eq_true rfl) rfl ?_
  refine k_new C nw_X3_86 dX3_isCycle_6 (by omega) (fun p h2 N2 => ?_)
  have p2 := N2.2.1
  refine k_dup C dX3_isCycle_9 rfl ?_
  refine k_aload_n C dX3_isCycle_10 rfl ?_
  refine k_iload_n C dX3_isCycle_11 rfl ?_
  refine k_iload_n C dX3_isCycle_12 rfl ?_
  refine k_iadd C dX3_isCycle_13 ?_
  rw [show (a : Int) + b = ((a + b : Nat) : Int) by omega]
  refine kx_I C rfl mi_X3_126 dX3_isCycle_14 ((c_rnInit (R := a + b) (by omega) p2)) rfl rfl (Nat.le_of_ble_eq_true rfl) ⟨(Nat.le_of_ble_eq_true rfl), (Nat.le_of_ble_eq_true rfl)⟩ (by omega) (fun v h3 hp_ => ?_) (fun _ _ hx => hx.elim)
  obtain ⟨rfl, tq, t3, V3, U3⟩ := hp_
  have F3 := wk_made N2 t3 U3 ((Ext.refl h3).upd [p, tq])
  -- first stays what it is while last goes on
  have first : ∀ hh : Hp, Upd h3 hh [p, tq] → isRn hh q md tp a (runN T a c0) ∧ isMd hh md cs T kv av bv ∧ Ext h hh := by
    intro hh U
    have FF := wk_made N2 t3 U3 U
    exact ⟨W1.ext FF.2.1, (G.ext E1).ext FF.2.1, E1.trans FF.2.1⟩
  -- the comparison
  have cmp : ∀ (hh : Hp) (lo hi s fr wy : Int), Upd h3 hh [p, tq] → isRn hh p md tq (a + b) (runN T (a + b) c0) → s = (runN T (a + b) c0).pl - (runN T a c0).pl → (∀ j : Nat, j ≤ 2 * (a + b) → (0 < s → lo ≤ fr + wy * j) ∧ (s < 0 → fr + wy * j ≤ hi) ∧ -50000 ≤ fr + wy * j ∧ fr + wy * j ≤ 50000) → (∀ i : Int, (0 < s → lo ≤ i) → (s < 0 → i ≤ hi) → (∃ j : Nat, j ≤ 2 * (a + b) ∧ i = fr + wy * j) ∨ (runN T a c0).tp i = (runN T (a + b) c0).tp (i + s)) → lo = loP T a b → hi = hiP T a b → (runN T (a + b) c0).n = a + b → (runN T a c0).st = (runN T (a + b) c0).st → Wk w K hh 4 (22 + 2 * a + 2 * (a + b)) 180 [some (.ref md), some (jI (a : Nat)), some (jI (b : Nat)), some (.ref q), some (.ref p), some (jI lo), some (jI hi), some (jI s), some (jI fr), some (jI wy), none] [] := by
    intro hh lo hi s fr wy U V hs hP hQ hlo hhi hn hst
    obtain ⟨Wq, Gm, Eh⟩ := first hh U
    have loop : ∀ (d k : Nat), k + d = 2 * (a + b) + 1 → (∀ j : Nat, j < k → (runN T a c0).tp (fr + wy * j) = (runN T (a + b) c0).tp (fr + s + wy * j)) → Wk w K hh 4 (22 + 2 * a + 2 * (a + b)) 183 [some (.ref md), some (jI (a : Nat)), some (jI (b : Nat)), some (.ref q), some (.ref p), some (jI lo), some (jI hi), some (jI s), some (jI fr), some (jI wy), some (jI (k : Nat))] [] := by
      intro d
      induction d with
      | zero =>
        intro k hk hj
        refine k_iload C dX3_isCycle_183 rfl ?_
        refine k_iconst C dX3_isCycle_185 ?_
        refine k_iload_n C dX3_isCycle_186 rfl ?_
        refine k_iload_n C dX3_isCycle_187 rfl ?_
        refine k_iadd C dX3_isCycle_188 ?_
        refine k_imul C dX3_isCycle_189 ?_
        refine k_icmp_gt C dX3_isCycle_190 (tgt := 232) (by decide) (by omega) (fun g1 => ?_) (fun g2 => ?_)
        · refine k_iconst C dX3_isCycle_232 ?_
          have hc : cycB T a b = true := (cycB_iff hT).mpr ⟨hn, hst, fun i i1 i2 => by
            rw [← hs] at i1 i2 ⊢
            rw [← hlo] at i1
            rw [← hhi] at i2
            rcases hQ i i1 i2 with ⟨j, j1, j2⟩ | e
            · rw [j2, hj j (by omega), show fr + s + wy * (j : Int) = fr + wy * (j : Int) + s by omega]
            · exact e⟩
          exact k_zret (b := true) C E dX3_isCycle_233 (by omega) ⟨by rw [hc], Eh⟩
        · omega
      | succ d ih =>
        intro k hk hj
        obtain ⟨z1, z2, z3, z4⟩ := hP k (by omega)
        have Wq1 := Wq.1
        have V1 := V.1
        obtain ⟨⟨-, ⟨c3, c4, c5, c6, c7, c8⟩, c9, c10⟩, c11⟩ := id ra
        obtain ⟨⟨-, ⟨d3, d4, d5, d6, d7, d8⟩, d9, d10⟩, d11⟩ := id rb
        have b1 := c9 (fr + wy * (k : Int))
        have b2 := d9 (fr + s + wy * (k : Int))
        refine k_iload C dX3_isCycle_183 rfl ?_
        refine k_iconst C dX3_isCycle_185 ?_
        refine k_iload_n C dX3_isCycle_186 rfl ?_
        refine k_iload_n C dX3_isCycle_187 rfl ?_
        refine k_iadd C dX3_isCycle_188 ?_
        refine k_imul C dX3_isCycle_189 ?_
        refine k_icmp_gt C dX3_isCycle_190 (tgt := 232) (by decide) (by omega) (fun g1 => ?_) (fun g2 => ?_)
        · omega
        · refine k_aload_n C dX3_isCycle_193 rfl ?_
          refine k_iload C dX3_isCycle_194 rfl ?_
          refine k_iload C dX3_isCycle_196 rfl ?_
          refine k_iload C dX3_isCycle_198 rfl ?_
          refine k_imul C dX3_isCycle_200 ?_
          refine k_iadd C dX3_isCycle_201 ?_
          refine kx_V C rfl mv_X3_144 dX3_isCycle_202 ((c_rnAt (by omega) Wq ra.1 (by omega) (by omega))) (by assumption) rfl rfl (Nat.le_of_ble_eq_true rfl) ⟨(Nat.le_of_ble_eq_true rfl), (Nat.le_of_ble_eq_true rfl)⟩ (by omega) (fun v k1 hp_ => ?_) (fun _ _ hx => hx.elim)
          obtain ⟨rfl, rfl⟩ := hp_
          refine k_aload C dX3_isCycle_205 rfl ?_
          refine k_iload C dX3_isCycle_207 rfl ?_
          refine k_iload C dX3_isCycle_209 rfl ?_
          refine k_iadd C dX3_isCycle_211 ?_
          refine k_iload C dX3_isCycle_212 rfl ?_
          refine k_iload C dX3_isCycle_214 rfl ?_
          refine k_imul C dX3_isCycle_216 ?_
          refine k_iadd C dX3_isCycle_217 ?_
          refine kx_V C rfl mv_X3_144 dX3_isCycle_218 ((c_rnAt (by omega) V rb.1 (by omega) (by omega))) (by assumption) rfl rfl (Nat.le_of_ble_eq_true rfl) ⟨(Nat.le_of_ble_eq_true rfl), (Nat.le_of_ble_eq_true rfl)⟩ (by omega) (fun v k1 hp_ => ?_) (fun _ _ hx => hx.elim)
          obtain ⟨rfl, rfl⟩ := hp_
          refine k_icmp_eq C dX3_isCycle_221 (tgt := 226) (by decide) (by omega) (fun g3 => ?_) (fun g4 => ?_)
          · refine k_iinc C dX3_isCycle_226 rfl rfl ?_
            refine k_goto C dX3_isCycle_229 (tgt := 183) (by decide) ?_
            refine ih (k + 1) (by omega) (fun j hj2 => ?_)
            by_cases e : j = k
            · rw [e]; exact g3
            · exact hj j (by omega)
          · refine k_iconst C dX3_isCycle_224 ?_
            have hc : cycB T a b = false := cycB_of hT (fun z => g4 (by
              have := z.2.2 (fr + wy * (k : Int)) (by rw [← hs, ← hlo]; exact z1) (by rw [← hs, ← hhi]; exact z2)
              rw [← hs] at this
              rw [this, show fr + s + wy * (k : Int) = fr + wy * (k : Int) + s by omega]))
            exact k_zret (b := false) C E dX3_isCycle_225 (by omega) ⟨by rw [hc], Eh⟩
    refine k_iconst C dX3_isCycle_180 ?_
    refine k_istore C dX3_isCycle_181 (Nat.le_of_ble_eq_true rfl) rfl ?_
    exact loop (2 * (a + b) + 1) 0 (by omega) (fun j hj => absurd hj (by omega))
  have hns : (runN T (a + b) c0).n = a + b → (runN T a c0).st ≠ T.1 := fun hn e => by
    have hx : nxt T (runN T a c0) = none := by unfold nxt; rw [if_pos e]
    rw [runN_add, runN_stop hx] at hn
    omega
  have exit97 : ∀ (hh : Hp) (lo hi : Int), Upd h3 hh [p, tq] → isRn hh p md tq (a + b) (runN T (a + b) c0) → ((runN T (a + b) c0).n = a + b → lo = loP T a b ∧ hi = hiP T a b) → Wk w K hh 4 (22 + 2 * a + 2 * (a + b)) 97 [some (.ref md), some (jI (a : Nat)), some (jI (b : Nat)), some (.ref q), some (.ref p), some (jI lo), some (jI hi), none, none, none, none] [] := by
    intro hh lo hi U V hlh
    obtain ⟨Wq, Gm, Eh⟩ := first hh U
    have V1 := V.1
    have Wq1 := Wq.1
    have hT2 := hT.2.1
    obtain ⟨⟨⟨a1, a2⟩, ⟨c3, c4, c5, c6, c7, c8⟩, c9, c10⟩, c11⟩ := id ra
    obtain ⟨⟨⟨b1, b2⟩, ⟨d3, d4, d5, d6, d7, d8⟩, d9, d10⟩, d11⟩ := id rb
    refine k_aload C dX3_isCycle_97 rfl ?_
    refine k_getN C fn_X3_112 dX3_isCycle_99 (by assumption) (by rfl) ?_
    refine k_iload_n C dX3_isCycle_102 rfl ?_
    refine k_iload_n C dX3_isCycle_103 rfl ?_
    refine k_iadd C dX3_isCycle_104 ?_
    refine k_icmp_lt C dX3_isCycle_105 (tgt := 128) (by decide) (by omega) (fun g1 => ?_) (fun g2 => ?_)
    · refine k_iconst C dX3_isCycle_128 ?_
      exact k_zret (b := false) C E dX3_isCycle_129 (by omega) ⟨by rw [cycB_of hT (fun z => by have := z.1; omega)], Eh⟩
    · have hn : (runN T (a + b) c0).n = a + b := by omega
      obtain ⟨hlo, hhi⟩ := hlh hn
      have lb := loP_b hT a b
      have ub := hiP_b hT a b
      refine k_aload C dX3_isCycle_108 rfl ?_
      refine kx_V C rfl mv_X3_109 dX3_isCycle_110 ((c_rnStopped V Gm hT rb.1)) (by assumption) rfl rfl (Nat.le_of_ble_eq_true rfl) ⟨(Nat.le_of_ble_eq_true rfl), (Nat.le_of_ble_eq_true rfl)⟩ (by omega) (fun v k1 hp_ => ?_) (fun _ _ hx => hx.elim)
      obtain ⟨rfl, rfl⟩ := hp_
      refine k_ifne_b C dX3_isCycle_113 (tgt := 128) (by decide) (fun g3 => ?_) (fun g4 => ?_)
      · refine k_iconst C dX3_isCycle_128 ?_
        have g3' : (runN T (a + b) c0).st = T.1 := of_decide_eq_true g3
        exact k_zret (b := false) C E dX3_isCycle_129 (by omega) ⟨by rw [cycB_of hT (fun z => hns hn (z.2.1.trans g3'))], Eh⟩
      · refine k_aload_n C dX3_isCycle_116 rfl ?_
        refine k_getN C fn_X3_103 dX3_isCycle_117 (by assumption) (by rfl) ?_
        refine k_aload C dX3_isCycle_120 rfl ?_
        refine k_getN C fn_X3_103 dX3_isCycle_122 (by assumption) (by rfl) ?_
        refine k_icmp_eq C dX3_isCycle_125 (tgt := 130) (by decide) (by omega) (fun g5 => ?_) (fun g6 => ?_)
        · generalize hs : (runN T (a + b) c0).pl - (runN T a c0).pl = s at *
          have hs' := hs
          refine k_aload C dX3_isCycle_130 rfl ?_
          refine k_getN C fn_X3_132 dX3_isCycle_132 (by assumption) (by rfl) ?_
          refine k_aload_n C dX3_isCycle_135 rfl ?_
          refine k_getN C fn_X3_132 dX3_isCycle_136 (by assumption) (by rfl) ?_
          refine k_isub C dX3_isCycle_139 ?_
          rw [hs]
          refine k_istore C dX3_isCycle_140 (Nat.le_of_ble_eq_true rfl) rfl ?_
          refine k_iload C dX3_isCycle_142 rfl ?_
          refine k_if_le C dX3_isCycle_144 (tgt := 152) (by decide) (by omega) (fun g7 => ?_) (fun g8 => ?_)
          · refine k_iload C dX3_isCycle_152 rfl ?_
            refine k_if_ge C dX3_isCycle_154 (tgt := 162) (by decide) (by omega) (fun g9 => ?_) (fun g10 => ?_)
            · refine k_iload_n C dX3_isCycle_162 rfl ?_
              refine k_ineg C dX3_isCycle_163 ?_
              refine k_iload_n C dX3_isCycle_164 rfl ?_
              refine k_isub C dX3_isCycle_165 ?_
              refine k_istore C dX3_isCycle_166 (Nat.le_of_ble_eq_true rfl) rfl ?_
              refine k_iload C dX3_isCycle_168 rfl ?_
              refine k_if_ge C dX3_isCycle_170 (tgt := 177) (by decide) (by omega) (fun g11 => ?_) (fun g12 => ?_)
              · refine k_iconst C dX3_isCycle_177 ?_
                refine k_istore C dX3_isCycle_178 (Nat.le_of_ble_eq_true rfl) rfl ?_
                refine Wk.sub (by repeat (first | exact trivial | apply Lle.so | apply Lle.no)) (cmp k1 lo hi s (-(a : Int) - b) 1 U V rfl (fun j hj => by omega) (fun i i1 i2 => ?_) hlo hhi hn g5)
                by_cases hi2 : -(a : Int) - b ≤ i ∧ i ≤ a + b
                · exact Or.inl ⟨(i + a + b).toNat, by omega, by omega⟩
                · exact Or.inr (by rw [c10 i (by omega), d10 (i + s) (by omega)])
              · omega
            · refine k_iload C dX3_isCycle_157 rfl ?_
              refine k_goto C dX3_isCycle_159 (tgt := 166) (by decide) ?_
              refine k_istore C dX3_isCycle_166 (Nat.le_of_ble_eq_true rfl) rfl ?_
              refine k_iload C dX3_isCycle_168 rfl ?_
              refine k_if_ge C dX3_isCycle_170 (tgt := 177) (by decide) (by omega) (fun g11 => ?_) (fun g12 => ?_)
              · omega
              · refine k_iconst C dX3_isCycle_173 ?_
                refine k_goto C dX3_isCycle_174 (tgt := 178) (by decide) ?_
                refine k_istore C dX3_isCycle_178 (Nat.le_of_ble_eq_true rfl) rfl ?_
                refine Wk.sub (by repeat (first | exact trivial | apply Lle.so | apply Lle.no)) (cmp k1 lo hi s hi (-1) U V rfl (fun j hj => by omega) (fun i i1 i2 => ?_) hlo hhi hn g5)
                have i2' := i2 g10
                by_cases hi2 : hi - 2 * (a + b) ≤ i
                · exact Or.inl ⟨(hi - i).toNat, by omega, by omega⟩
                · exact Or.inr (by rw [c10 i (by omega), d10 (i + s) (by omega)])
          · refine k_iload C dX3_isCycle_147 rfl ?_
            refine k_goto C dX3_isCycle_149 (tgt := 166) (by decide) ?_
            refine k_istore C dX3_isCycle_166 (Nat.le_of_ble_eq_true rfl) rfl ?_
            refine k_iload C dX3_isCycle_168 rfl ?_
            refine k_if_ge C dX3_isCycle_170 (tgt := 177) (by decide) (by omega) (fun g11 => ?_) (fun g12 => ?_)
            · refine k_iconst C dX3_isCycle_177 ?_
              refine k_istore C dX3_isCycle_178 (Nat.le_of_ble_eq_true rfl) rfl ?_
              refine Wk.sub (by repeat (first | exact trivial | apply Lle.so | apply Lle.no)) (cmp k1 lo hi s lo 1 U V rfl (fun j hj => by omega) (fun i i1 i2 => ?_) hlo hhi hn g5)
              have i1' := i1 g8
              by_cases hi2 : i ≤ lo + 2 * (a + b)
              · exact Or.inl ⟨(i - lo).toNat, by omega, by omega⟩
              · exact Or.inr (by rw [c10 i (by omega), d10 (i + s) (by omega)])
            · omega
        · refine k_iconst C dX3_isCycle_128 ?_
          exact k_zret (b := false) C E dX3_isCycle_129 (by omega) ⟨by rw [cycB_of hT (fun z => g6 z.2.1)], Eh⟩
  have loop2 : ∀ (d i : Nat) (hh : Hp), i + d = b → Upd h3 hh [p, tq] → isRn hh p md tq (a + b) (runN T (a + i) c0) → Wk w K hh 4 (22 + 2 * a + 2 * (a + b)) 51 [some (.ref md), some (jI (a : Nat)), some (jI (b : Nat)), some (.ref q), some (.ref p), some (jI (loP T a i)), some (jI (hiP T a i)), none, none, none, none] [] := by
    intro d
    induction d with
    | zero =>
      intro i hh hi U V
      have hi' : i = b := by omega
      subst hi'
      obtain ⟨Wq, Gm, Eh⟩ := first hh U
      have V1 := V.1
      refine k_aload C dX3_isCycle_51 rfl ?_
      refine k_getN C fn_X3_112 dX3_isCycle_53 (by assumption) (by rfl) ?_
      refine k_iload_n C dX3_isCycle_56 rfl ?_
      refine k_iload_n C dX3_isCycle_57 rfl ?_
      refine k_iadd C dX3_isCycle_58 ?_
      refine k_icmp_ge C dX3_isCycle_59 (tgt := 97) (by decide) (by omega) (fun g1 => ?_) (fun g2 => ?_)
      · exact exit97 hh _ _ U V (fun _ => ⟨rfl, rfl⟩)
      · have hx : nxt T (runN T (a + i) c0) = none := (runN_n (T := T) (a + i) c0).2.2 (by show (runN T (a + i) c0).n < 0 + (a + i); omega)
        refine k_aload C dX3_isCycle_62 rfl ?_
        refine kx_V C rfl mv_X3_129 dX3_isCycle_64 ((c_rnStepN (by omega) V Gm hT rb.1 (by omega) hx)) (by assumption) rfl rfl (Nat.le_of_ble_eq_true rfl) ⟨(Nat.le_of_ble_eq_true rfl), (Nat.le_of_ble_eq_true rfl)⟩ (by omega) (fun v k1 hp_ => ?_) (fun _ _ hx => hx.elim)
        obtain ⟨rfl, rfl⟩ := hp_
        refine k_ifeq_b C dX3_isCycle_67 (tgt := 97) (by decide) (fun _ => ?_) (fun z => by cases z)
        exact exit97 k1 _ _ U V (fun _ => ⟨rfl, rfl⟩)
    | succ d ih =>
      intro i hh hi U V
      obtain ⟨Wq, Gm, Eh⟩ := first hh U
      have V1 := V.1
      have ri := runN_c0 hT (a + i)
      have lb := loP_b hT a i
      have ub := hiP_b hT a i
      refine k_aload C dX3_isCycle_51 rfl ?_
      refine k_getN C fn_X3_112 dX3_isCycle_53 (by assumption) (by rfl) ?_
      refine k_iload_n C dX3_isCycle_56 rfl ?_
      refine k_iload_n C dX3_isCycle_57 rfl ?_
      refine k_iadd C dX3_isCycle_58 ?_
      refine k_icmp_ge C dX3_isCycle_59 (tgt := 97) (by decide) (by omega) (fun g1 => ?_) (fun g2 => ?_)
      · omega
      · cases hx : nxt T (runN T (a + i) c0) with
        | none =>
          have ee : runN T (a + b) c0 = runN T (a + i) c0 := by rw [show a + b = a + i + (b - i) by omega, runN_add, runN_stop hx]
          refine k_aload C dX3_isCycle_62 rfl ?_
          refine kx_V C rfl mv_X3_129 dX3_isCycle_64 ((c_rnStepN (by omega) V Gm hT ri.1 (by omega) hx)) (by assumption) rfl rfl (Nat.le_of_ble_eq_true rfl) ⟨(Nat.le_of_ble_eq_true rfl), (Nat.le_of_ble_eq_true rfl)⟩ (by omega) (fun v k1 hp_ => ?_) (fun _ _ hx => hx.elim)
          obtain ⟨rfl, rfl⟩ := hp_
          refine k_ifeq_b C dX3_isCycle_67 (tgt := 97) (by decide) (fun _ => ?_) (fun z => by cases z)
          exact exit97 k1 _ _ U (by rw [ee]; exact V) (fun z => by rw [ee] at z; omega)
        | some r =>
          have ea := runN_snoc hx
          have r2 := runN_c0 hT (a + i + 1)
          obtain ⟨-, ⟨d3, d4, d5, d6, d7, d8⟩, -⟩ := id r2.1
          refine k_aload C dX3_isCycle_62 rfl ?_
          refine kx_V C rfl mv_X3_129 dX3_isCycle_64 ((c_rnStepS (by omega) V Gm hT ri.1 (by omega) hx)) (by assumption) rfl rfl (Nat.le_of_ble_eq_true rfl) ⟨(Nat.le_of_ble_eq_true rfl), (Nat.le_of_ble_eq_true rfl)⟩ (by omega) (fun v k1 hp_ => ?_) (fun _ _ hx => hx.elim)
          obtain ⟨rfl, U4, V4⟩ := hp_
          refine k_ifeq_b C dX3_isCycle_67 (tgt := 97) (by decide) (fun z => by cases z) (fun _ => ?_)
          rw [← ea] at V4
          have V41 := V4.1
          have e1 : min (loP T a i) (runN T (a + i + 1) c0).pl = loP T a (i + 1) := rfl
          have e2 : max (hiP T a i) (runN T (a + i + 1) c0).pl = hiP T a (i + 1) := rfl
          refine k_iload C dX3_isCycle_70 rfl ?_
          refine k_aload C dX3_isCycle_72 rfl ?_
          refine k_getN C fn_X3_132 dX3_isCycle_74 (by assumption) (by rfl) ?_
          refine k_min C rfl q1444 dX3_isCycle_77 (by omega) ⟨(Nat.le_of_ble_eq_true rfl), (Nat.le_of_ble_eq_true rfl)⟩ (by omega) ?_
          refine k_istore C dX3_isCycle_80 (Nat.le_of_ble_eq_true rfl) rfl ?_
          refine k_iload C dX3_isCycle_82 rfl ?_
          refine k_aload C dX3_isCycle_84 rfl ?_
          refine k_getN C fn_X3_132 dX3_isCycle_86 (by assumption) (by rfl) ?_
          refine k_max C rfl q1445 dX3_isCycle_89 (by omega) ⟨(Nat.le_of_ble_eq_true rfl), (Nat.le_of_ble_eq_true rfl)⟩ (by omega) ?_
          refine k_istore C dX3_isCycle_92 (Nat.le_of_ble_eq_true rfl) rfl ?_
          refine k_goto C dX3_isCycle_94 (tgt := 51) (by decide) ?_
          rw [e1, e2]
          exact ih (i + 1) k1 (by omega) (U.trans U4 (fun x hx => Or.inl hx)) V4
  have loop1 : ∀ (d : Nat) (hh : Hp) (c : Cf), c.n + d = a → Upd h3 hh [p, tq] → isRn hh p md tq (a + b) c → CfOk T c → runN T d c = runN T a c0 → Wk w K hh 4 (22 + 2 * a + 2 * (a + b)) 19 [some (.ref md), some (jI (a : Nat)), some (jI (b : Nat)), some (.ref q), some (.ref p), none, none, none, none, none, none] [] := by
    intro d
    induction d with
    | zero =>
      intro hh c hd U V ok hr
      obtain ⟨Wq, Gm, Eh⟩ := first hh U
      have V1 := V.1
      have Wq1 := Wq.1
      have hr' : c = runN T a c0 := hr
      subst hr'
      refine k_aload C dX3_isCycle_19 rfl ?_
      refine k_getN C fn_X3_112 dX3_isCycle_21 (by assumption) (by rfl) ?_
      refine k_iload_n C dX3_isCycle_24 rfl ?_
      refine k_icmp_ge C dX3_isCycle_25 (tgt := 39) (by decide) (by omega) (fun g1 => ?_) (fun g2 => ?_)
      · refine k_aload_n C dX3_isCycle_39 rfl ?_
        refine k_getN C fn_X3_132 dX3_isCycle_40 (by assumption) (by rfl) ?_
        refine k_istore C dX3_isCycle_43 (Nat.le_of_ble_eq_true rfl) rfl ?_
        refine k_aload_n C dX3_isCycle_45 rfl ?_
        refine k_getN C fn_X3_132 dX3_isCycle_46 (by assumption) (by rfl) ?_
        refine k_istore C dX3_isCycle_49 (Nat.le_of_ble_eq_true rfl) rfl ?_
        exact Wk.sub (by repeat (first | exact trivial | apply Lle.so | apply Lle.no)) (loop2 b 0 hh (by omega) U V)
      · omega
    | succ d ih =>
      intro hh c hd U V ok hr
      obtain ⟨Wq, Gm, Eh⟩ := first hh U
      have V1 := V.1
      have Wq1 := Wq.1
      refine k_aload C dX3_isCycle_19 rfl ?_
      refine k_getN C fn_X3_112 dX3_isCycle_21 (by assumption) (by rfl) ?_
      refine k_iload_n C dX3_isCycle_24 rfl ?_
      refine k_icmp_ge C dX3_isCycle_25 (tgt := 39) (by decide) (by omega) (fun g1 => ?_) (fun g2 => ?_)
      · omega
      · cases hx : nxt T c with
        | none =>
          rw [runN_stop hx] at hr
          subst hr
          refine k_aload C dX3_isCycle_28 rfl ?_
          refine kx_V C rfl mv_X3_129 dX3_isCycle_30 ((c_rnStepN (by omega) V Gm hT ok (by omega) hx)) (by assumption) rfl rfl (Nat.le_of_ble_eq_true rfl) ⟨(Nat.le_of_ble_eq_true rfl), (Nat.le_of_ble_eq_true rfl)⟩ (by omega) (fun v k1 hp_ => ?_) (fun _ _ hx => hx.elim)
          obtain ⟨rfl, rfl⟩ := hp_
          refine k_ifeq_b C dX3_isCycle_33 (tgt := 39) (by decide) (fun _ => ?_) (fun z => by cases z)
          refine k_aload_n C dX3_isCycle_39 rfl ?_
          refine k_getN C fn_X3_132 dX3_isCycle_40 (by assumption) (by rfl) ?_
          refine k_istore C dX3_isCycle_43 (Nat.le_of_ble_eq_true rfl) rfl ?_
          refine k_aload_n C dX3_isCycle_45 rfl ?_
          refine k_getN C fn_X3_132 dX3_isCycle_46 (by assumption) (by rfl) ?_
          refine k_istore C dX3_isCycle_49 (Nat.le_of_ble_eq_true rfl) rfl ?_
          exact Wk.sub (by repeat (first | exact trivial | apply Lle.so | apply Lle.no)) (loop2 b 0 k1 (by omega) U V)
        | some r =>
          rw [runN_go hx] at hr
          refine k_aload C dX3_isCycle_28 rfl ?_
          refine kx_V C rfl mv_X3_129 dX3_isCycle_30 ((c_rnStepS (by omega) V Gm hT ok (by omega) hx)) (by assumption) rfl rfl (Nat.le_of_ble_eq_true rfl) ⟨(Nat.le_of_ble_eq_true rfl), (Nat.le_of_ble_eq_true rfl)⟩ (by omega) (fun v k1 hp_ => ?_) (fun _ _ hx => hx.elim)
          obtain ⟨rfl, U4, V4⟩ := hp_
          refine k_ifeq_b C dX3_isCycle_33 (tgt := 39) (by decide) (fun z => by cases z) (fun _ => ?_)
          refine k_goto C dX3_isCycle_36 (tgt := 19) (by decide) ?_
          exact ih k1 (adv c r) (by show c.n + 1 + d = a; omega) (U.trans U4 (fun x hx => Or.inl hx)) V4 (adv_ok hT ok hx) hr
  refine k_astore C dX3_isCycle_17 (Nat.le_of_ble_eq_true rfl) rfl ?_
  exact Wk.widen (n' := 4) (k' := 22 + 2 * a + 2 * (a + b)) (by omega) (by omega) (loop1 a h3 c0 (by show 0 + a = a; omega) ((Ext.refl h3).upd _) V3 c0_ok rfl)
