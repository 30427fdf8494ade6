/-! ===== the checksum; the model's ===== -/
set_option maxRecDepth 100000
def mixS (s : Int64) (v : Int) : Int64 := s * 31 + iL v
def mixN (f : Nat → Int) : Nat → Int64 → Int64
  | 0, s => s
  | n + 1, s => mixS (mixN f n s) (f n)
def mixC (T : Tb) : Nat → Int64 → Int64
  | 0, s => s
  | k + 1, s => mixN (fun w => cellC T (k : Nat) (w : Nat)) 3 (mixC T k s)
def mixMc (mc : Mch) (s : Int64) : Int64 := mixS (mixS (mixN (fun w => atC (runN mc.1 40 c0) (w : Nat)) 8 (mixC mc.1 (2 * mc.1.1) (mixN (fun w => machC mc (runN mc.1 500 c0) (w : Nat)) 9 s))) (cycNow mc.1 8)) (backNow mc.1)
def mixMs (σ : Sg) : Nat → Int64 → Int64
  | 0, s => s
  | j + 1, s => mixMc (σ.ms j) (mixMs σ j s)
def digC (σ : Sg) : Int64 := mixS (mixS (mixN (fun t => tagR (σ.tg t) 9 10) σ.k (mixMs σ σ.n (mixN (fun w => manyC σ (w : Nat)) 11 58237))) (chamC σ 0)) (chamC σ 1)
theorem c_mAdd {w : Wd} {h : Hp} {m : Nat} {L : ML} {σ : Sg} {th v : Int} {s : Int64} (H : isMo w h m L σ th s) : Ct w yX3_add (ws_ yX3_add cX3_add 2 none) 0 0 0 0 [.ref m, jI v] h (fun r h' => r = none ∧ isMo w h' m L σ th (mixS s v) ∧ Upd h h' [m]) NoX := by
  have hm := H.1
  refine Ct.of (by decide) [some (.ref m), some (jI v)] rfl (Nat.le_of_ble_eq_true rfl) (fun K C E N0 => ?_)
  refine k_aload_n C dX3_add_0 rfl ?_
  refine k_aload_n C dX3_add_1 rfl ?_
  refine k_get C fg_X3_261 dX3_add_2 (by assumption) (by rfl) ?_
  refine k_ldc2 C q1643 dX3_add_5 ?_
  refine k_lmul C dX3_add_8 ?_
  refine k_iload_n C dX3_add_9 rfl ?_
  refine k_i2l C dX3_add_10 ?_
  refine k_ladd C dX3_add_11 ?_
  refine k_put C fg_X3_261 ft_2_6 dX3_add_12 (by assumption) rfl rfl rfl (fun h1 P1 => ?_)
  exact k_vret C E dX3_add_15 (by omega) ⟨rfl, H.own P1, P1.upd⟩
theorem c_mDigest {w : Wd} {h : Hp} {m : Nat} {L : ML} {σ : Sg} {th : Int} {s : Int64} (H : isMo w h m L σ th s) (hσ : SgOk σ) : Ct w yX3_digest (ws_ yX3_digest cX3_digest 5 (some FieldType.long)) 11 284 (34 + 590 * σ.n) (224 + 15879 * σ.n) [.ref m] h (fun v h' => v = some (.long (digC σ)) ∧ isMo w h' m L σ 0 (digC σ) ∧ Upd h h' [m]) NoX := by
  have hm := H.1
  have hn := hσ.1
  have hk4 := hσ.2.1
  have mkn := mk_num
  refine Ct.of (by decide) [some (.ref m), none, none, none, none] rfl (Nat.le_of_ble_eq_true rfl) (fun K C E N0 => ?_)
  generalize hdig : digC σ = D at *
  unfold digC at hdig
  generalize hs1 : mixN (fun w => manyC σ (w : Nat)) 11 58237 = s1 at *
  generalize hs2 : mixMs σ σ.n s1 = s2 at *
  generalize hs3 : mixN (fun t => tagR (σ.tg t) 9 10) σ.k s2 = s3 at *
  -- the champions
  have p220 : ∀ hh : Hp, isMo w hh m L σ 0 s3 → Upd h hh [m] → Wk w K hh (34 + 584 * σ.n) (224 + 13839 * σ.n) 220 [some (.ref m), none, none, none, none] [] := by
    intro hh G U
    have m1 := G.1
    refine k_aload_n C dX3_digest_220 rfl ?_
    refine k_aload_n C dX3_digest_221 rfl ?_
    refine k_iconst C dX3_digest_222 ?_
    refine kx_V C rfl mv_X3_243 dX3_digest_223 ((c_mChampionNow G hσ (by decide))) (by assumption) rfl rfl (Nat.le_of_ble_eq_true rfl) ⟨(Nat.le_of_ble_eq_true rfl), (Nat.le_of_ble_eq_true rfl)⟩ (by omega) (fun v h2 hp_ => ?_) (fun _ _ hx => hx.elim)
    obtain ⟨rfl, E2⟩ := hp_
    have m2 := E2.2 _ _ m1
    refine kx_V C rfl mv_X3_269 dX3_digest_226 ((c_mAdd (G.ext E2))) (by assumption) rfl rfl (Nat.le_of_ble_eq_true rfl) ⟨(Nat.le_of_ble_eq_true rfl), (Nat.le_of_ble_eq_true rfl)⟩ (by omega) (fun v h3 hp_ => ?_) (fun _ _ hx => hx.elim)
    obtain ⟨rfl, G3, U3⟩ := hp_
    have m3 := G3.1
    refine k_aload_n C dX3_digest_229 rfl ?_
    refine k_aload_n C dX3_digest_230 rfl ?_
    refine k_iconst C dX3_digest_231 ?_
    refine kx_V C rfl mv_X3_243 dX3_digest_232 ((c_mChampionNow G3 hσ (by decide))) (by assumption) rfl rfl (Nat.le_of_ble_eq_true rfl) ⟨(Nat.le_of_ble_eq_true rfl), (Nat.le_of_ble_eq_true rfl)⟩ (by omega) (fun v h4 hp_ => ?_) (fun _ _ hx => hx.elim)
    obtain ⟨rfl, E4⟩ := hp_
    have m4 := E4.2 _ _ m3
    refine kx_V C rfl mv_X3_269 dX3_digest_235 ((c_mAdd (G3.ext E4))) (by assumption) rfl rfl (Nat.le_of_ble_eq_true rfl) ⟨(Nat.le_of_ble_eq_true rfl), (Nat.le_of_ble_eq_true rfl)⟩ (by omega) (fun v h5 hp_ => ?_) (fun _ _ hx => hx.elim)
    obtain ⟨rfl, G5, U5⟩ := hp_
    have m5 := G5.1
    rw [hdig] at G5
    refine k_aload_n C dX3_digest_238 rfl ?_
    refine k_get C fg_X3_261 dX3_digest_239 (by assumption) (by rfl) ?_
    exact k_lret C E dX3_digest_242 (by omega) ⟨by rw [hdig], G5, (((U.trans (E2.upd [m]) (fun x hx => Or.inl hx)).trans U3 (fun x hx => Or.inl hx)).trans (E4.upd [m]) (fun x hx => Or.inl hx)).trans U5 (fun x hx => Or.inl hx)⟩
  -- the tags
  have p190 : ∀ (d t : Nat) (hh : Hp), t + d = σ.k → isMo w hh m L σ 0 (mixN (fun t => tagR (σ.tg t) 9 10) t s2) → Upd h hh [m] → Wk w K hh (34 + 584 * σ.n) (224 + 13839 * σ.n) 190 [some (.ref m), some (jI (t : Nat)), none, none, none] [] := by
    intro d
    induction d with
    | zero =>
      intro t hh ht G U
      have ht' : t = σ.k := by omega
      subst ht'
      rw [hs3] at G
      have m1 := G.1
      obtain ⟨ft, At, Ft⟩ := G.2.2.1
      have lt := At.1
      refine k_iload_n C dX3_digest_190 rfl ?_
      refine k_aload_n C dX3_digest_191 rfl ?_
      refine k_get C fg_X3_16 dX3_digest_192 (by assumption) (by rfl) ?_
      refine kx_V C rfl mv_X3_23 dX3_digest_195 ((c_size lt)) (by assumption) rfl rfl (Nat.le_of_ble_eq_true rfl) ⟨(Nat.le_of_ble_eq_true rfl), (Nat.le_of_ble_eq_true rfl)⟩ (by omega) (fun v kk hp_ => ?_) (fun _ _ hx => hx.elim)
      obtain ⟨rfl, rfl⟩ := hp_
      refine k_icmp_ge C dX3_digest_198 (tgt := 220) (by decide) (by omega) (fun g1 => ?_) (fun g2 => ?_)
      · exact Wk.sub (by repeat (first | exact trivial | apply Lle.so | apply Lle.no)) (p220 kk G U)
      · omega
    | succ d ih =>
      intro t hh ht G U
      have m1 := G.1
      obtain ⟨ft, At, Ft⟩ := G.2.2.1
      have lt := At.1
      refine k_iload_n C dX3_digest_190 rfl ?_
      refine k_aload_n C dX3_digest_191 rfl ?_
      refine k_get C fg_X3_16 dX3_digest_192 (by assumption) (by rfl) ?_
      refine kx_V C rfl mv_X3_23 dX3_digest_195 ((c_size lt)) (by assumption) rfl rfl (Nat.le_of_ble_eq_true rfl) ⟨(Nat.le_of_ble_eq_true rfl), (Nat.le_of_ble_eq_true rfl)⟩ (by omega) (fun v kk hp_ => ?_) (fun _ _ hx => hx.elim)
      obtain ⟨rfl, rfl⟩ := hp_
      refine k_icmp_ge C dX3_digest_198 (tgt := 220) (by decide) (by omega) (fun g1 => ?_) (fun g2 => ?_)
      · omega
      · refine k_aload_n C dX3_digest_201 rfl ?_
        refine k_aload_n C dX3_digest_202 rfl ?_
        refine k_iload_n C dX3_digest_203 rfl ?_
        refine k_bipush C dX3_digest_204 (by decide) ?_
        refine k_bipush C dX3_digest_206 (by decide) ?_
        refine kx_V C rfl mv_X3_254 dX3_digest_208 ((c_mTaggedNow (t := t) (row := 10) (n := 9) G hσ (by omega) ⟨by decide, by decide⟩ (by decide))) (by assumption) rfl rfl (Nat.le_of_ble_eq_true rfl) ⟨(Nat.le_of_ble_eq_true rfl), (Nat.le_of_ble_eq_true rfl)⟩ (by omega) (fun v h2 hp_ => ?_) (fun _ _ hx => hx.elim)
        obtain ⟨rfl, rfl⟩ := hp_
        refine kx_V C rfl mv_X3_269 dX3_digest_211 ((c_mAdd G)) (by assumption) rfl rfl (Nat.le_of_ble_eq_true rfl) ⟨(Nat.le_of_ble_eq_true rfl), (Nat.le_of_ble_eq_true rfl)⟩ (by omega) (fun v h3 hp_ => ?_) (fun _ _ hx => hx.elim)
        obtain ⟨rfl, G3, U3⟩ := hp_
        refine k_iinc C dX3_digest_214 rfl rfl ?_
        refine k_goto C dX3_digest_217 (tgt := 190) (by decide) ?_
        exact ih (t + 1) h3 (by omega) G3 (U.trans U3 (fun x hx => Or.inl hx))
  -- the machines
  have p43 : ∀ (d j : Nat) (it : Nat) (hh : Hp) (v1 : Value), j + d = σ.n → isMo w hh m L σ 0 (mixMs σ j s1) → Upd h hh [m] → h.2 it = none → hh.2 it = some (.inl (16, [jI j, v1, jI σ.n, .ref L.lm])) → Wk w K hh (34 + 584 * j) (224 + 13839 * j) 43 [some (.ref m), some (.ref it), none, none, none] [] := by
    intro d
    induction d with
    | zero =>
      intro j it hh v1 hj G U it0 hit
      have hj' : j = σ.n := by omega
      subst hj'
      rw [hs2] at G
      obtain ⟨f, A, F⟩ := G.2.1
      have l1 := A.1
      refine k_aload_n C dX3_digest_43 rfl ?_
      refine kx_F C rfl mf_X3_162 dX3_digest_44 ((c_hasNext (i := σ.n) (n := σ.n) (by omega) hit l1)) (by assumption) rfl rfl (Nat.le_of_ble_eq_true rfl) ⟨(Nat.le_of_ble_eq_true rfl), (Nat.le_of_ble_eq_true rfl)⟩ (by omega) (fun v kk hp_ => ?_) (fun _ _ hx => hx.elim)
      obtain ⟨rfl, rfl⟩ := hp_
      rw [decide_eq_false (Nat.lt_irrefl σ.n)]
      refine k_ifeq_b C dX3_digest_49 (tgt := 188) (by decide) (fun _ => ?_) (fun z => by cases z)
      refine k_iconst C dX3_digest_188 ?_
      refine k_istore_n C dX3_digest_189 (Nat.le_of_ble_eq_true rfl) rfl ?_
      exact Wk.sub (by repeat (first | exact trivial | apply Lle.so | apply Lle.no)) (p190 σ.k 0 kk (by omega) G U)
    | succ d ih =>
      intro j it hh v1 hj G U it0 hit
      obtain ⟨f, A, F⟩ := G.2.1
      have l1 := A.1
      have mok := hσ.2.2.1 j (by omega)
      have hT2 := mok.1.2.1
      have r5 := runN_c0 mok.1 500
      have r4 := runN_c0 mok.1 40
      have hms : mixMs σ (j + 1) s1 = mixMc (σ.ms j) (mixMs σ j s1) := rfl
      generalize mixMs σ j s1 = s0 at *
      unfold mixMc at hms
      generalize hq1 : mixN (fun w => machC (σ.ms j) (runN (σ.ms j).1 500 c0) (w : Nat)) 9 s0 = q1 at *
      generalize hq2 : mixC (σ.ms j).1 (2 * (σ.ms j).1.1) q1 = q2 at *
      generalize hq3 : mixN (fun w => atC (runN (σ.ms j).1 40 c0) (w : Nat)) 8 q2 = q3 at *
      have itm : it ≠ m := fun e => by rw [e, hm] at it0; cases it0
      have aA : ∀ hx : Hp, isMo w hx m L σ 0 s0 ∨ True → True := fun _ _ => trivial
      -- cycles and backward rows
      have p167 : ∀ (hx : Hp) (v2 : Value), isMo w hx m L σ 0 q3 → Upd h hx [m] → hx.2 it = some (.inl (16, [jI ((j + 1 : Nat) : Int), v2, jI σ.n, .ref L.lm])) → Wk w K hx (34 + 584 * j + 37) (224 + 13839 * j + 9335) 167 [some (.ref m), some (.ref it), some (.ref (L.A j).1), none, none] [] := by
        intro hx v2 G U hit
        have m1 := G.1
        have M := G.2.2.2.1 j (by omega)
        refine k_aload_n C dX3_digest_167 rfl ?_
        refine k_aload_n C dX3_digest_168 rfl ?_
        refine k_bipush C dX3_digest_169 (by decide) ?_
        refine kx_S C rfl ms_X3_201 dX3_digest_171 ((c_mCycleNow (b := 8) M mok.1 (by omega))) rfl rfl (Nat.le_of_ble_eq_true rfl) ⟨(Nat.le_of_ble_eq_true rfl), (Nat.le_of_ble_eq_true rfl)⟩ (by omega) (fun v h2 hp_ => ?_) (fun _ _ hx => hx.elim)
        obtain ⟨rfl, E2⟩ := hp_
        have m2 := E2.2 _ _ m1
        refine kx_V C rfl mv_X3_269 dX3_digest_174 ((c_mAdd (G.ext E2))) (by assumption) rfl rfl (Nat.le_of_ble_eq_true rfl) ⟨(Nat.le_of_ble_eq_true rfl), (Nat.le_of_ble_eq_true rfl)⟩ (by omega) (fun v h3 hp_ => ?_) (fun _ _ hx => hx.elim)
        obtain ⟨rfl, G3, U3⟩ := hp_
        have m3 := G3.1
        have M3 := G3.2.2.2.1 j (by omega)
        refine k_aload_n C dX3_digest_177 rfl ?_
        refine k_aload_n C dX3_digest_178 rfl ?_
        refine kx_S C rfl ms_X3_205 dX3_digest_179 ((c_mBackNow M3 mok.1)) rfl rfl (Nat.le_of_ble_eq_true rfl) ⟨(Nat.le_of_ble_eq_true rfl), (Nat.le_of_ble_eq_true rfl)⟩ (by omega) (fun v h4 hp_ => ?_) (fun _ _ hx => hx.elim)
        obtain ⟨rfl, E4⟩ := hp_
        have m4 := E4.2 _ _ m3
        refine kx_V C rfl mv_X3_269 dX3_digest_182 ((c_mAdd (G3.ext E4))) (by assumption) rfl rfl (Nat.le_of_ble_eq_true rfl) ⟨(Nat.le_of_ble_eq_true rfl), (Nat.le_of_ble_eq_true rfl)⟩ (by omega) (fun v h5 hp_ => ?_) (fun _ _ hx => hx.elim)
        obtain ⟨rfl, G5, U5⟩ := hp_
        rw [← hms] at G5
        refine k_goto C dX3_digest_185 (tgt := 43) (by decide) ?_
        refine Wk.sub (by repeat (first | exact trivial | apply Lle.so | apply Lle.no)) (Wk.widen (n' := 34 + 584 * (j + 1)) (k' := 224 + 13839 * (j + 1)) (by omega) (by omega) (ih (j + 1) it h5 v2 (by omega) G5 ((((U.trans (E2.upd [m]) (fun x hx => Or.inl hx)).trans U3 (fun x hx => Or.inl hx)).trans (E4.upd [m]) (fun x hx => Or.inl hx)).trans U5 (fun x hx => Or.inl hx)) it0 ?_))
        exact U5.2 _ _ (E4.2 _ _ (U3.2 _ _ (E2.2 _ _ hit) (by simpa using itm))) (by simpa using itm)
      -- what is told of the walk
      have p144 : ∀ (d w' : Nat) (rn : Nat) (tp : Nat) (hx : Hp) (v2 : Value), w' + d = 8 → isMo w hx m L σ 0 (mixN (fun w => atC (runN (σ.ms j).1 40 c0) (w : Nat)) w' q2) → Upd h hx [m] → hx.2 it = some (.inl (16, [jI ((j + 1 : Nat) : Int), v2, jI σ.n, .ref L.lm])) → isRn hx rn (L.A j).1 tp 40 (runN (σ.ms j).1 40 c0) → Wk w K hx (34 + 584 * j + 29 + w') (224 + 13839 * j + 9271 + 8 * w') 144 [some (.ref m), some (.ref it), some (.ref (L.A j).1), some (.ref rn), some (jI (w' : Nat))] [] := by
        intro d
        induction d with
        | zero =>
          intro w' rn tp hx v2 hw G U hit W
          have hw' : w' = 8 := by omega
          subst hw'
          rw [hq3] at G
          refine k_iload C dX3_digest_144 rfl ?_
          refine k_bipush C dX3_digest_146 (by decide) ?_
          refine k_icmp_ge C dX3_digest_148 (tgt := 167) (by decide) (by omega) (fun g1 => ?_) (fun g2 => ?_)
          · exact Wk.sub (by repeat (first | exact trivial | apply Lle.so | apply Lle.no)) (Wk.widen (by omega) (by omega) (p167 hx v2 G U hit))
          · omega
        | succ d ihw =>
          intro w' rn tp hx v2 hw G U hit W
          have m1 := G.1
          have W1 := W.1
          refine k_iload C dX3_digest_144 rfl ?_
          refine k_bipush C dX3_digest_146 (by decide) ?_
          refine k_icmp_ge C dX3_digest_148 (tgt := 167) (by decide) (by omega) (fun g1 => ?_) (fun g2 => ?_)
          · omega
          · refine k_aload_n C dX3_digest_151 rfl ?_
            refine k_aload_n C dX3_digest_152 rfl ?_
            refine k_iload C dX3_digest_153 rfl ?_
            refine kx_S C rfl ms_X3_233 dX3_digest_155 ((c_mAtNow (what := (w' : Nat)) (by omega) (by omega) W r4.1 r4.2)) rfl rfl (Nat.le_of_ble_eq_true rfl) ⟨(Nat.le_of_ble_eq_true rfl), (Nat.le_of_ble_eq_true rfl)⟩ (by omega) (fun v h2 hp_ => ?_) (fun _ _ hx => hx.elim)
            obtain ⟨rfl, E2⟩ := hp_
            have m2 := E2.2 _ _ m1
            refine kx_V C rfl mv_X3_269 dX3_digest_158 ((c_mAdd (G.ext E2))) (by assumption) rfl rfl (Nat.le_of_ble_eq_true rfl) ⟨(Nat.le_of_ble_eq_true rfl), (Nat.le_of_ble_eq_true rfl)⟩ (by omega) (fun v h3 hp_ => ?_) (fun _ _ hx => hx.elim)
            obtain ⟨rfl, G3, U3⟩ := hp_
            refine k_iinc C dX3_digest_161 rfl rfl ?_
            refine k_goto C dX3_digest_164 (tgt := 144) (by decide) ?_
            have rm : rn ≠ m := ne_cel W1 m1 (ne_cls (by decide))
            have tm : tp ≠ m := ne_cel W.2 m1 ne_oa
            refine Wk.widen (n' := 34 + 584 * j + 29 + (w' + 1)) (k' := 224 + 13839 * j + 9271 + 8 * (w' + 1)) (by omega) (by omega) (ihw (w' + 1) rn tp h3 v2 (by omega) G3 ((U.trans (E2.upd [m]) (fun x hx => Or.inl hx)).trans U3 (fun x hx => Or.inl hx)) (U3.2 _ _ (E2.2 _ _ hit) (by simpa using itm)) ⟨U3.2 _ _ (E2.2 _ _ W.1) (by simpa using rm), U3.2 _ _ (E2.2 _ _ W.2) (by simpa using tm)⟩)
      -- the cells
      have p88 : ∀ (d k' : Nat) (hx : Hp) (v2 : Value), k' + d = 2 * (σ.ms j).1.1 → isMo w hx m L σ 0 (mixC (σ.ms j).1 k' q1) → Upd h hx [m] → hx.2 it = some (.inl (16, [jI ((j + 1 : Nat) : Int), v2, jI σ.n, .ref L.lm])) → Wk w K hx (34 + 584 * j + 27) (224 + 13839 * j + 9180) 88 [some (.ref m), some (.ref it), some (.ref (L.A j).1), some (jI (k' : Nat)), none] [] := by
        intro d
        induction d with
        | zero =>
          intro k' hx v2 hk G U hit
          have hk' : k' = 2 * (σ.ms j).1.1 := by omega
          subst hk'
          rw [hq2] at G
          have M := G.2.2.2.1 j (by omega)
          obtain ⟨M1, fc, M2, M3⟩ := id M
          refine k_iload_n C dX3_digest_88 rfl ?_
          refine k_aload_n C dX3_digest_89 rfl ?_
          refine k_getN C fn_X3_59 dX3_digest_90 (by assumption) (by rfl) ?_
          refine k_alen C dX3_digest_93 (by assumption) (by rfl) ?_
          refine k_icmp_ge C dX3_digest_94 (tgt := 134) (by decide) (by omega) (fun g1 => ?_) (fun g2 => ?_)
          · refine k_aload_n C dX3_digest_134 rfl ?_
            refine k_bipush C dX3_digest_135 (by decide) ?_
            refine kx_V C rfl mv_X3_81 dX3_digest_137 ((c_run (R := 40) (by omega) M mok.1)) (by assumption) rfl rfl (Nat.le_of_ble_eq_true rfl) ⟨(Nat.le_of_ble_eq_true rfl), (Nat.le_of_ble_eq_true rfl)⟩ (by omega) (fun v h2 hp_ => ?_) (fun _ _ hx => hx.elim)
            obtain ⟨rn, tp, rfl, rn0, tp0, W2, E2⟩ := hp_
            refine k_astore_n C dX3_digest_140 (Nat.le_of_ble_eq_true rfl) rfl ?_
            refine k_iconst C dX3_digest_141 ?_
            refine k_istore C dX3_digest_142 (Nat.le_of_ble_eq_true rfl) rfl ?_
            exact Wk.sub (by repeat (first | exact trivial | apply Lle.so | apply Lle.no)) (p144 8 0 rn tp h2 v2 (by omega) (G.ext E2) (U.trans (E2.upd [m]) (fun x hx => Or.inl hx)) (E2.2 _ _ hit) W2)
          · omega
        | succ d ihk =>
          intro k' hx v2 hk G U hit
          have M := G.2.2.2.1 j (by omega)
          obtain ⟨M1, fc, M2, M3⟩ := id M
          have hck : mixC (σ.ms j).1 (k' + 1) q1 = mixN (fun w => cellC (σ.ms j).1 (k' : Nat) (w : Nat)) 3 (mixC (σ.ms j).1 k' q1) := rfl
          generalize mixC (σ.ms j).1 k' q1 = u0 at *
          refine k_iload_n C dX3_digest_88 rfl ?_
          refine k_aload_n C dX3_digest_89 rfl ?_
          refine k_getN C fn_X3_59 dX3_digest_90 (by assumption) (by rfl) ?_
          refine k_alen C dX3_digest_93 (by assumption) (by rfl) ?_
          refine k_icmp_ge C dX3_digest_94 (tgt := 134) (by decide) (by omega) (fun g1 => ?_) (fun g2 => ?_)
          · omega
          · have p100 : ∀ (d w' : Nat) (hy : Hp), w' + d = 3 → isMo w hy m L σ 0 (mixN (fun w => cellC (σ.ms j).1 (k' : Nat) (w : Nat)) w' u0) → Upd h hy [m] → hy.2 it = some (.inl (16, [jI ((j + 1 : Nat) : Int), v2, jI σ.n, .ref L.lm])) → Wk w K hy (34 + 584 * j + 27) (224 + 13839 * j + 9180) 100 [some (.ref m), some (.ref it), some (.ref (L.A j).1), some (jI (k' : Nat)), some (jI (w' : Nat))] [] := by
              intro d
              induction d with
              | zero =>
                intro w' hy hw G U hit
                have hw' : w' = 3 := by omega
                subst hw'
                rw [← hck] at G
                refine k_iload C dX3_digest_100 rfl ?_
                refine k_iconst C dX3_digest_102 ?_
                refine k_icmp_ge C dX3_digest_103 (tgt := 128) (by decide) (by omega) (fun g3 => ?_) (fun g4 => ?_)
                · refine k_iinc C dX3_digest_128 rfl rfl ?_
                  refine k_goto C dX3_digest_131 (tgt := 88) (by decide) ?_
                  exact Wk.sub (by repeat (first | exact trivial | apply Lle.so | apply Lle.no)) (ihk (k' + 1) hy v2 (by omega) G U hit)
                · omega
              | succ d ihw =>
                intro w' hy hw G U hit
                have m1 := G.1
                have M := G.2.2.2.1 j (by omega)
                have M1 := M.1
                refine k_iload C dX3_digest_100 rfl ?_
                refine k_iconst C dX3_digest_102 ?_
                refine k_icmp_ge C dX3_digest_103 (tgt := 128) (by decide) (by omega) (fun g3 => ?_) (fun g4 => ?_)
                · omega
                · refine k_aload_n C dX3_digest_106 rfl ?_
                  refine k_aload_n C dX3_digest_107 rfl ?_
                  refine k_iload_n C dX3_digest_108 rfl ?_
                  refine k_iconst C dX3_digest_109 ?_
                  refine k_idiv C dX3_digest_110 (by omega) ?_
                  refine k_iload_n C dX3_digest_111 rfl ?_
                  refine k_iconst C dX3_digest_112 ?_
                  refine k_irem C dX3_digest_113 (by omega) ?_
                  refine k_iload C dX3_digest_114 rfl ?_
                  refine kx_S C rfl ms_X3_211 dX3_digest_116 ((c_mCellNow (s := (k' : Int) / 2) (b := (k' : Int) % 2) (what := (w' : Nat)) M mok.1 (by omega) (by omega) (by omega))) rfl rfl (Nat.le_of_ble_eq_true rfl) ⟨(Nat.le_of_ble_eq_true rfl), (Nat.le_of_ble_eq_true rfl)⟩ (by omega) (fun v h2 hp_ => ?_) (fun _ _ hx => hx.elim)
                  obtain ⟨rfl, rfl⟩ := hp_
                  rw [show 2 * ((k' : Int) / 2) + (k' : Int) % 2 = k' by omega]
                  refine kx_V C rfl mv_X3_269 dX3_digest_119 ((c_mAdd G)) (by assumption) rfl rfl (Nat.le_of_ble_eq_true rfl) ⟨(Nat.le_of_ble_eq_true rfl), (Nat.le_of_ble_eq_true rfl)⟩ (by omega) (fun v h3 hp_ => ?_) (fun _ _ hx => hx.elim)
                  obtain ⟨rfl, G3, U3⟩ := hp_
                  refine k_iinc C dX3_digest_122 rfl rfl ?_
                  refine k_goto C dX3_digest_125 (tgt := 100) (by decide) ?_
                  exact ihw (w' + 1) h3 (by omega) G3 (U.trans U3 (fun x hx => Or.inl hx)) (U3.2 _ _ hit (by simpa using itm))
            refine k_iconst C dX3_digest_97 ?_
            refine k_istore C dX3_digest_98 (Nat.le_of_ble_eq_true rfl) rfl ?_
            exact p100 3 0 hx (by omega) G U hit
      -- what is told of the machine
      have p64 : ∀ (d w' : Nat) (hx : Hp) (v2 : Value), w' + d = 9 → isMo w hx m L σ 0 (mixN (fun w => machC (σ.ms j) (runN (σ.ms j).1 500 c0) (w : Nat)) w' s0) → Upd h hx [m] → hx.2 it = some (.inl (16, [jI ((j + 1 : Nat) : Int), v2, jI σ.n, .ref L.lm])) → Wk w K hx (34 + 584 * j + 3 * w') (224 + 13839 * j + 1020 * w') 64 [some (.ref m), some (.ref it), some (.ref (L.A j).1), some (jI (w' : Nat)), none] [] := by
        intro d
        induction d with
        | zero =>
          intro w' hx v2 hw G U hit
          have hw' : w' = 9 := by omega
          subst hw'
          rw [hq1] at G
          refine k_iload_n C dX3_digest_64 rfl ?_
          refine k_bipush C dX3_digest_65 (by decide) ?_
          refine k_icmp_ge C dX3_digest_67 (tgt := 86) (by decide) (by omega) (fun g1 => ?_) (fun g2 => ?_)
          · refine k_iconst C dX3_digest_86 ?_
            refine k_istore_n C dX3_digest_87 (Nat.le_of_ble_eq_true rfl) rfl ?_
            exact Wk.sub (by repeat (first | exact trivial | apply Lle.so | apply Lle.no)) (Wk.widen (by omega) (by omega) (p88 (2 * (σ.ms j).1.1) 0 hx v2 (by omega) G U hit))
          · omega
        | succ d ihw =>
          intro w' hx v2 hw G U hit
          have m1 := G.1
          have M := G.2.2.2.1 j (by omega)
          refine k_iload_n C dX3_digest_64 rfl ?_
          refine k_bipush C dX3_digest_65 (by decide) ?_
          refine k_icmp_ge C dX3_digest_67 (tgt := 86) (by decide) (by omega) (fun g1 => ?_) (fun g2 => ?_)
          · omega
          · refine k_aload_n C dX3_digest_70 rfl ?_
            refine k_aload_n C dX3_digest_71 rfl ?_
            refine k_aload_n C dX3_digest_72 rfl ?_
            refine k_iload_n C dX3_digest_73 rfl ?_
            refine kx_V C rfl mv_X3_221 dX3_digest_74 ((c_mOfMachine (what := (w' : Nat)) m1 M mok (by omega))) (by assumption) rfl rfl (Nat.le_of_ble_eq_true rfl) ⟨(Nat.le_of_ble_eq_true rfl), (Nat.le_of_ble_eq_true rfl)⟩ (by omega) (fun v h2 hp_ => ?_) (fun _ _ hx => hx.elim)
            obtain ⟨rfl, E2⟩ := hp_
            have m2 := E2.2 _ _ m1
            refine kx_V C rfl mv_X3_269 dX3_digest_77 ((c_mAdd (G.ext E2))) (by assumption) rfl rfl (Nat.le_of_ble_eq_true rfl) ⟨(Nat.le_of_ble_eq_true rfl), (Nat.le_of_ble_eq_true rfl)⟩ (by omega) (fun v h3 hp_ => ?_) (fun _ _ hx => hx.elim)
            obtain ⟨rfl, G3, U3⟩ := hp_
            refine k_iinc C dX3_digest_80 rfl rfl ?_
            refine k_goto C dX3_digest_83 (tgt := 64) (by decide) ?_
            exact Wk.widen (n' := 34 + 584 * j + 3 * (w' + 1)) (k' := 224 + 13839 * j + 1020 * (w' + 1)) (by omega) (by omega) (ihw (w' + 1) h3 v2 (by omega) G3 ((U.trans (E2.upd [m]) (fun x hx => Or.inl hx)).trans U3 (fun x hx => Or.inl hx)) (U3.2 _ _ (E2.2 _ _ hit) (by simpa using itm)))
      refine k_aload_n C dX3_digest_43 rfl ?_
      refine kx_F C rfl mf_X3_162 dX3_digest_44 ((c_hasNext (i := j) (n := σ.n) (by omega) hit l1)) (by assumption) rfl rfl (Nat.le_of_ble_eq_true rfl) ⟨(Nat.le_of_ble_eq_true rfl), (Nat.le_of_ble_eq_true rfl)⟩ (by omega) (fun v kk hp_ => ?_) (fun _ _ hx => hx.elim)
      obtain ⟨rfl, rfl⟩ := hp_
      rw [decide_eq_true (show j < σ.n by omega)]
      refine k_ifeq_b C dX3_digest_49 (tgt := 188) (by decide) (fun z => by cases z) (fun _ => ?_)
      refine k_aload_n C dX3_digest_52 rfl ?_
      refine kx_F C rfl mf_X3_167 dX3_digest_53 ((c_next A (i := j) (by omega) (F j (by omega)) hit)) (by assumption) rfl rfl (Nat.le_of_ble_eq_true rfl) ⟨(Nat.le_of_ble_eq_true rfl), (Nat.le_of_ble_eq_true rfl)⟩ (by omega) (fun v g1 hp_ => ?_) (fun _ _ hx => hx.elim)
      obtain ⟨rfl, P1⟩ := hp_
      have G1 := G.it hit P1.upd
      have M := G1.2.2.2.1 j (by omega)
      have M1 := M.1
      refine k_castO C ck_X3_35_5 dX3_digest_58 (by assumption) ?_
      refine k_astore_n C dX3_digest_61 (Nat.le_of_ble_eq_true rfl) rfl ?_
      refine k_iconst C dX3_digest_62 ?_
      refine k_istore_n C dX3_digest_63 (Nat.le_of_ble_eq_true rfl) rfl ?_
      exact Wk.sub (by repeat (first | exact trivial | apply Lle.so | apply Lle.no)) (p64 9 0 g1 _ (by omega) G1 (U.trans P1.upd (fun x hx => Or.inr (by rw [show x = it by simpa using hx]; exact it0))) P1.2.1)
  -- the counts
  have p14 : ∀ (d w' : Nat) (hh : Hp), w' + d = 11 → isMo w hh m L σ 0 (mixN (fun w => manyC σ (w : Nat)) w' 58237) → Upd h hh [m] → Wk w K hh (3 * w') (20 * w') 14 [some (.ref m), some (jI (w' : Nat)), none, none, none] [] := by
    intro d
    induction d with
    | zero =>
      intro w' hh hw G U
      have hw' : w' = 11 := by omega
      subst hw'
      rw [hs1] at G
      have m1 := G.1
      obtain ⟨f, A, F⟩ := G.2.1
      have l1 := A.1
      refine k_iload_n C dX3_digest_14 rfl ?_
      refine k_bipush C dX3_digest_15 (by decide) ?_
      refine k_icmp_ge C dX3_digest_17 (tgt := 35) (by decide) (by omega) (fun g1 => ?_) (fun g2 => ?_)
      · refine k_aload_n C dX3_digest_35 rfl ?_
        refine k_get C fg_X3_10 dX3_digest_36 (by assumption) (by rfl) ?_
        refine kx_V C rfl mv_X3_158 dX3_digest_39 ((c_iterator l1)) (by assumption) rfl rfl (Nat.le_of_ble_eq_true rfl) ⟨(Nat.le_of_ble_eq_true rfl), (Nat.le_of_ble_eq_true rfl)⟩ (by omega) (fun v h2 hp_ => ?_) (fun _ _ hx => hx.elim)
        obtain ⟨it, rfl, N2⟩ := hp_
        refine k_astore_n C dX3_digest_42 (Nat.le_of_ble_eq_true rfl) rfl ?_
        have it0 : h.2 it = none := by
          cases e : h.2 it with
          | none => rfl
          | some dd =>
            have hne : it ≠ m := fun z => by have := N2.1; rw [z, m1] at this; cases this
            have := U.2 _ _ e (by simpa using hne)
            rw [N2.1] at this; cases this
        exact Wk.sub (by repeat (first | exact trivial | apply Lle.so | apply Lle.no)) (Wk.widen (n' := 34 + 584 * 0) (k' := 224 + 13839 * 0) (by omega) (by omega) (p43 σ.n 0 it h2 _ (by omega) (G.ext N2.2.2.1) (U.trans (N2.2.2.1.upd [m]) (fun x hx => Or.inl hx)) it0 N2.2.1))
      · omega
    | succ d ih =>
      intro w' hh hw G U
      have m1 := G.1
      refine k_iload_n C dX3_digest_14 rfl ?_
      refine k_bipush C dX3_digest_15 (by decide) ?_
      refine k_icmp_ge C dX3_digest_17 (tgt := 35) (by decide) (by omega) (fun g1 => ?_) (fun g2 => ?_)
      · omega
      · refine k_aload_n C dX3_digest_20 rfl ?_
        refine k_aload_n C dX3_digest_21 rfl ?_
        refine k_iload_n C dX3_digest_22 rfl ?_
        refine kx_V C rfl mv_X3_258 dX3_digest_23 ((c_mManyNow (what := (w' : Nat)) G hσ (by omega))) (by assumption) rfl rfl (Nat.le_of_ble_eq_true rfl) ⟨(Nat.le_of_ble_eq_true rfl), (Nat.le_of_ble_eq_true rfl)⟩ (by omega) (fun v h2 hp_ => ?_) (fun _ _ hx => hx.elim)
        obtain ⟨rfl, E2⟩ := hp_
        have m2 := E2.2 _ _ m1
        refine kx_V C rfl mv_X3_269 dX3_digest_26 ((c_mAdd (G.ext E2))) (by assumption) rfl rfl (Nat.le_of_ble_eq_true rfl) ⟨(Nat.le_of_ble_eq_true rfl), (Nat.le_of_ble_eq_true rfl)⟩ (by omega) (fun v h3 hp_ => ?_) (fun _ _ hx => hx.elim)
        obtain ⟨rfl, G3, U3⟩ := hp_
        refine k_iinc C dX3_digest_29 rfl rfl ?_
        refine k_goto C dX3_digest_32 (tgt := 14) (by decide) ?_
        exact Wk.widen (n' := 3 * (w' + 1)) (k' := 20 * (w' + 1)) (by omega) (by omega) (ih (w' + 1) h3 (by omega) G3 ((U.trans (E2.upd [m]) (fun x hx => Or.inl hx)).trans U3 (fun x hx => Or.inl hx)))
  refine k_aload_n C dX3_digest_0 rfl ?_
  refine k_iconst C dX3_digest_1 ?_
  refine k_put C fg_X3_19 ft_2_0 dX3_digest_2 (by assumption) rfl rfl rfl (fun h1 P1 => ?_)
  have H1 := H.own P1
  have m1 := H1.1
  refine k_aload_n C dX3_digest_5 rfl ?_
  refine k_ldc2 C q1638 dX3_digest_6 ?_
  refine k_put C fg_X3_261 ft_2_6 dX3_digest_9 (by assumption) rfl rfl rfl (fun h2 P2 => ?_)
  have H2 := H1.own P2
  refine k_iconst C dX3_digest_12 ?_
  refine k_istore_n C dX3_digest_13 (Nat.le_of_ble_eq_true rfl) rfl ?_
  exact Wk.sub (by repeat (first | exact trivial | apply Lle.so | apply Lle.no)) (Wk.widen (by omega) (by omega) (p14 11 0 h2 (by omega) H2 (P1.upd.trans P2.upd (fun x hx => Or.inl hx))))
