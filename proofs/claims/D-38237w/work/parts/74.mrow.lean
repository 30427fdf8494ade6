/-! ===== the model: backward rows, as bits ===== -/
set_option maxRecDepth 100000
theorem bit1 (m p : Nat) : (m / 2 ^ p) &&& 1 = (m.testBit p).toNat := by
  rw [Nat.toNat_testBit, Nat.and_one_is_mod]
theorem bitI (M P : Nat) : (((((M : Nat) : Int) / 2 ^ ((P : Nat) : Int).toNat).toNat &&& (1 : Int).toNat : Nat) : Int) = b2i (M.testBit P) := by
  rw [Int.toNat_natCast, show ((M : Nat) : Int) / 2 ^ P = ((M / 2 ^ P : Nat) : Int) by rw [Int.natCast_ediv, Int.natCast_pow]; rfl, Int.toNat_natCast, show (1 : Int).toNat = 1 from rfl, bit1]
  cases M.testBit P <;> rfl
theorem or_bit (M P j : Nat) : (M ||| 2 ^ P).testBit j = (M.testBit j || decide (P = j)) := by
  rw [Nat.testBit_or, Nat.testBit_two_pow]
theorem clr_bit {B P b j : Nat} (hP : P < 16) (hj : j < 16) (hb : b ≤ 1) : ((B &&& (2 ^ 32 - (2 ^ P + 1))) ||| b * 2 ^ P).testBit j = if j = P then decide (b = 1) else B.testBit j := by
  have h2 : 2 ^ P < 2 ^ 32 := Nat.pow_lt_pow_right (by decide) (by omega)
  rw [Nat.testBit_or, Nat.testBit_and, Nat.testBit_two_pow_sub_succ h2, Nat.testBit_two_pow]
  have e : (b * 2 ^ P).testBit j = (decide (b = 1) && decide (P = j)) := by
    obtain rfl | rfl : b = 0 ∨ b = 1 := by omega
    · simp
    · rw [Nat.one_mul, Nat.testBit_two_pow]; simp
  rw [e]
  by_cases h : j = P
  · subst h; simp
  · rw [if_neg h]
    have h' : ¬ P = j := fun z => h z.symm
    simp [h', show j < 32 by omega]
theorem or_lt {a b : Nat} (ha : a < 65536) (hb : b < 65536) : a ||| b < 65536 := Nat.or_lt_two_pow (n := 16) ha hb
def bitsOk (f : Int → Int) (M B : Nat) : Prop := (M < 65536 ∧ B < 65536) ∧ ∀ j : Nat, j < 16 → M.testBit j = decide (f ((j : Int) - 8) ≠ -1) ∧ (M.testBit j = true → B.testBit j = decide (f ((j : Int) - 8) = 1))
theorem bits_end (i : Nat) : bitsOk (up (fun _ => -1) 0 ((i : Int) % 2)) 256 (i % 2 * 256) := by
  refine ⟨⟨by decide, by omega⟩, fun j hj => ?_⟩
  by_cases e : j = 8
  · subst e
    rw [show ((8 : Nat) : Int) - 8 = 0 by omega, up_at]
    rcases Nat.mod_two_eq_zero_or_one i with z | z
    · rw [z, show (i : Int) % 2 = 0 by omega]; exact ⟨by decide, fun _ => by decide⟩
    · rw [z, show (i : Int) % 2 = 1 by omega]; exact ⟨by decide, fun _ => by decide⟩
  · rw [up_ne (by omega), show (256 : Nat) = 2 ^ 8 from rfl, Nat.testBit_two_pow, decide_eq_false (fun z => e z.symm)]
    exact ⟨rfl, fun z => by cases z⟩
theorem bits_step {f : Int → Int} {M B P i : Nat} {p : Int} (H : bitsOk f M B) (hP : P < 16) (hp : p + 8 = P) : bitsOk (up f p ((i : Int) % 2)) (M ||| 2 ^ P) ((B &&& (2 ^ 32 - (2 ^ P + 1))) ||| i % 2 * 2 ^ P) := by
  obtain ⟨⟨h1, h2⟩, h3⟩ := H
  have hq : 2 ^ P ≤ 2 ^ 15 := Nat.pow_le_pow_right (by decide) (by omega)
  have hx : i % 2 * 2 ^ P ≤ 1 * 2 ^ 15 := Nat.mul_le_mul (by omega) hq
  refine ⟨⟨or_lt h1 (by omega), or_lt (Nat.lt_of_le_of_lt Nat.and_le_left h2) (by omega)⟩, fun j hj => ?_⟩
  obtain ⟨a, b⟩ := h3 j hj
  rw [or_bit, clr_bit hP hj (by omega)]
  by_cases e : j = P
  · subst e
    rw [show (j : Int) - 8 = p by omega, up_at, if_pos rfl, decide_eq_true (show (i : Int) % 2 ≠ -1 by omega)]
    refine ⟨by simp, fun _ => ?_⟩
    congr 1
    apply propext
    omega
  · rw [up_ne (by omega), if_neg e, decide_eq_false (fun z => e z.symm : ¬ P = j), Bool.or_false]
    exact ⟨a, b⟩
/-- a row as four ints: state, place + 8, which places are known, what they are -/
def isRm (h : Hp) (o : Nat) (r : Rw) : Prop := ∃ (g : Int → Int) (M B : Nat), h.2 o = some (aI 0 4 g) ∧ (g 0 = r.1 ∧ g 1 = r.2.1 + 8 ∧ g 2 = (M : Nat) ∧ g 3 = (B : Nat)) ∧ bitsOk r.2.2 M B
theorem isRm.ext {h h' : Hp} {o : Nat} {r : Rw} (E : Ext h h') (H : isRm h o r) : isRm h' o r := by
  obtain ⟨g, M, B, e, e2⟩ := H
  exact ⟨g, M, B, E.2 _ _ e, e2⟩
def isRms (h : Hp) (acc : List Rw) (f : Int → Option Nat) : Prop := ∀ (k : Nat) (r : Rw), acc[k]? = some r → ∃ o, f k = some o ∧ isRm h o r
theorem isRms.ext {h h' : Hp} {acc : List Rw} {f : Int → Option Nat} (E : Ext h h') (H : isRms h acc f) : isRms h' acc f := fun k r e => by
  obtain ⟨o, e1, e2⟩ := H k r e
  exact ⟨o, e1, e2.ext E⟩
theorem isRms.el {h : Hp} {acc : List Rw} {f : Int → Option Nat} (H : isRms h acc f) : isEl h acc.length f := fun j h0 h1 => by
  obtain ⟨o, e1, g, M, B, e2, -⟩ := H j.toNat _ (List.getElem?_eq_getElem (show j.toNat < acc.length by omega))
  rw [show ((j.toNat : Nat) : Int) = j by omega] at e1
  exact ⟨_, _, e1, e2, rfl⟩
theorem isRm.upd {h h' : Hp} {o : Nat} {r : Rw} {S : List Nat} (U : Upd h h' S) (hS : ∀ x ∈ S, h.2 x = none ∨ ∃ d : Cel, h.2 x = some d ∧ ∀ (n : Nat) (y : Nat → Value), d ≠ .inr (0, n, y)) (H : isRm h o r) : isRm h' o r := by
  obtain ⟨g, M, B, e, e2⟩ := H
  refine ⟨g, M, B, U.2 _ _ e (fun hx => ?_), e2⟩
  rcases hS o hx with z | ⟨d, z, z2⟩
  · rw [e] at z; cases z
  · rw [e] at z; exact z2 _ _ (Option.some.inj z).symm
theorem isRms.upd {h h' : Hp} {acc : List Rw} {f : Int → Option Nat} {S : List Nat} (U : Upd h h' S) (hS : ∀ x ∈ S, h.2 x = none ∨ ∃ d : Cel, h.2 x = some d ∧ ∀ (n : Nat) (y : Nat → Value), d ≠ .inr (0, n, y)) (H : isRms h acc f) : isRms h' acc f := fun k r e => by
  obtain ⟨o, e1, e2⟩ := H k r e
  exact ⟨o, e1, e2.upd U hS⟩
theorem isRms.push {h : Hp} {acc : List Rw} {f g : Int → Option Nat} {o : Nat} {r : Rw} (H : isRms h acc f) (h1 : ∀ i : Int, 0 ≤ i → i < acc.length → g i = f i) (h2 : g acc.length = some o) (h3 : isRm h o r) : isRms h (acc ++ [r]) g := fun k x e => by
  by_cases hk : k < acc.length
  · rw [List.getElem?_append_left hk] at e
    obtain ⟨o1, e1, e2⟩ := H k x e
    exact ⟨o1, by rw [h1 k (by omega) (by omega)]; exact e1, e2⟩
  · have hk2 : k = acc.length := by
      have := (List.getElem?_eq_some_iff.mp e).1
      rw [List.length_append] at this
      simp only [List.length_cons, List.length_nil] at this
      omega
    subst hk2
    rw [List.getElem?_append_right (Nat.le_refl _), Nat.sub_self] at e
    have : r = x := by simpa using e
    subst this
    exact ⟨o, h2, h3⟩
theorem c_mLastRows {w : Wd} {h : Hp} {md cs : Nat} {T : Tb} {kv av bv : Int} (G : isMd h md cs T kv av bv) (hT : TbOk T) : Ct w yX3_lastRows (ws_ yX3_lastRows cX3_lastRows 4 (some (FieldType.object "java/util/ArrayList"))) 8 211 10 45 [.ref md] h (fun v h' => ∃ l ar f, v = some (.ref l) ∧ isAL w h' l ar (rowsEnds T).length (capOf (rowsEnds T).length) f ∧ isRms h' (rowsEnds T) f ∧ Ext h h') NoX := by
  have hT2 := hT.2.1
  obtain ⟨m0, fc, m1, m2⟩ := id G
  refine Ct.of (by decide) [some (.ref md), none, none, none] rfl (Nat.le_of_ble_eq_true rfl) (fun K C E N0 => ?_)
  refine k_new C nw_X3_7 dX3_lastRows_0 (by omega) (fun l h1 N1 => ?_)
  have l1 := N1.2.1
  refine k_dup C dX3_lastRows_3 rfl ?_
  refine kx_I C rfl mi_X3_9 dX3_lastRows_4 ((c_alInit l1)) rfl rfl (Nat.le_of_ble_eq_true rfl) ⟨(Nat.le_of_ble_eq_true rfl), (Nat.le_of_ble_eq_true rfl)⟩ (by omega) (fun v h2 hp_ => ?_) (fun _ _ hx => hx.elim)
  obtain ⟨rfl, P2⟩ := hp_
  have l2 := P2.2.1
  have E2 : Ext h h2 := P2.upd.ext0 N1.2.2.1 (by simpa using N1.1)
  refine k_astore_n C dX3_lastRows_7 (Nat.le_of_ble_eq_true rfl) rfl ?_
  refine k_iconst C dX3_lastRows_8 ?_
  refine k_istore_n C dX3_lastRows_9 (Nat.le_of_ble_eq_true rfl) rfl ?_
  have p8 : payC 8 = 1 ∧ payS 8 = 10 := by decide
  have loop : ∀ (d i ar n k : Nat) (hh : Hp) (f : Int → Option Nat) (acc : List Rw), i + d = 2 * T.1 → acc.length ≤ i → n = 1 + acc.length + payC acc.length → k = 3 + 4 * acc.length + payS acc.length → isAL w hh l ar acc.length (capOf acc.length) f → isRms hh acc f → Ext h hh → (0 < acc.length → h.2 ar = none) → colK (endRow T) d i acc = rowsEnds T → Wk w K hh n k 10 [some (.ref md), some (.ref l), some (jI (i : Nat)), none] [] := by
    intro d
    induction d with
    | zero =>
      intro i ar n k hh f acc hi ha hn hk h1 h2 h3 h4 h5
      have pc := payC_le (show acc.length ≤ 8 by omega)
      have ps := payS_le (show acc.length ≤ 8 by omega)
      have m01 := h3.2 _ _ m0
      have m11 := h3.2 _ _ m1
      have e : acc = rowsEnds T := h5
      subst e
      refine k_iload_n C dX3_lastRows_10 rfl ?_
      refine k_aload_n C dX3_lastRows_11 rfl ?_
      refine k_getN C fn_X3_59 dX3_lastRows_12 (by assumption) (by rfl) ?_
      refine k_alen C dX3_lastRows_15 (by assumption) (by rfl) ?_
      refine k_icmp_ge C dX3_lastRows_16 (tgt := 88) (by decide) (by omega) (fun g1 => ?_) (fun g2 => ?_)
      · refine k_aload_n C dX3_lastRows_88 rfl ?_
        exact k_aret C (Or.inl ⟨_, rfl⟩) E dX3_lastRows_89 (by omega) ⟨l, ar, f, rfl, h1, h2, h3⟩
      · omega
    | succ d ih =>
      intro i ar n k hh f acc hi ha hn hk h1 h2 h3 h4 h5
      have pc := payC_le (show acc.length + 1 ≤ 8 by omega)
      have ps := payS_le (show acc.length + 1 ≤ 8 by omega)
      have pc1 : payC (acc.length + 1) = payC acc.length + gcC acc.length (capOf acc.length) := rfl
      have ps1 : payS (acc.length + 1) = payS acc.length + gcS acc.length (capOf acc.length) := rfl
      have m01 := h3.2 _ _ m0
      have m11 := h3.2 _ _ m1
      have hc := m2 (i : Int) (by omega) (by omega)
      -- one more
      have put : endsB T (i : Int) = true → Wk w K hh n k 46 [some (.ref md), some (.ref l), some (jI (i : Nat)), none] [] := by
        intro g4
        rw [colK_some (r := ((i : Int) / 2, 0, up (fun _ => -1) 0 ((i : Int) % 2))) (by unfold endRow; rw [g4]; rfl)] at h5
        refine k_iconst C dX3_lastRows_46 ?_
        refine k_newarr (kd := 0) (g := fun j : Nat => jI ((fun _ => 0 : Int → Int) (j : Int))) C q358 rfl rfl (fun _ => rfl) dX3_lastRows_47 (by omega) (by decide) (by omega) (fun o hA NA => ?_)
        have oA : hA.2 o = some (aI 0 4 (fun _ => 0)) := NA.2.1
        refine k_dup C dX3_lastRows_49 rfl ?_
        refine k_iconst C dX3_lastRows_50 ?_
        refine k_iload_n C dX3_lastRows_51 rfl ?_
        refine k_iconst C dX3_lastRows_52 ?_
        refine k_idiv C dX3_lastRows_53 (by omega) ?_
        refine k_iast C dX3_lastRows_54 (by assumption) (by omega) (fun hB PB => ?_)
        have oB := PB.2.1
        refine k_dup C dX3_lastRows_55 rfl ?_
        refine k_iconst C dX3_lastRows_56 ?_
        refine k_bipush C dX3_lastRows_57 (by decide) ?_
        refine k_iast C dX3_lastRows_59 (by assumption) (by omega) (fun hC PC => ?_)
        have oC := PC.2.1
        refine k_dup C dX3_lastRows_60 rfl ?_
        refine k_iconst C dX3_lastRows_61 ?_
        refine k_sipush C dX3_lastRows_62 (by decide) ?_
        refine k_iast C dX3_lastRows_65 (by assumption) (by omega) (fun hD PD => ?_)
        have oD := PD.2.1
        refine k_dup C dX3_lastRows_66 rfl ?_
        refine k_iconst C dX3_lastRows_67 ?_
        refine k_iload_n C dX3_lastRows_68 rfl ?_
        refine k_iconst C dX3_lastRows_69 ?_
        refine k_irem C dX3_lastRows_70 (by omega) ?_
        refine k_bipush C dX3_lastRows_71 (by decide) ?_
        refine k_ishl C dX3_lastRows_73 (by omega) ?_
        refine k_iast C dX3_lastRows_74 (by assumption) (by omega) (fun hE PE => ?_)
        have NE := (((NA.put PB).put PC).put PD).put PE
        have oE := NE.2.1
        have EE := NE.2.2.1
        have RE : isRm hE o ((i : Int) / 2, 0, up (fun _ => -1) 0 ((i : Int) % 2)) := ⟨_, 256, i % 2 * 256, oE, ⟨by rw [up_ne (by decide), up_ne (by decide), up_ne (by decide), up_at], by rw [up_ne (by decide), up_ne (by decide), up_at]; rfl, by rw [up_ne (by decide), up_at]; rfl, by rw [up_at, show (2 : Int) ^ (8 : Int).toNat = 256 from rfl]; omega⟩, bits_end i⟩
        have AE := h1.ext EE
        have SE := h2.ext EE
        have lE := AE.1
        have ol : o ≠ l := Ne.symm (NA.ne h1.1)
        have oa : o ≠ ar := ne_cel oE AE.2.1 (fun z => by cases z)
        refine k_astore_n C dX3_lastRows_75 (Nat.le_of_ble_eq_true rfl) rfl ?_
        refine k_aload_n C dX3_lastRows_76 rfl ?_
        refine k_aload_n C dX3_lastRows_77 rfl ?_
        refine kx_V C rfl mv_X3_40 dX3_lastRows_78 ((c_push (h0 := h) AE (by omega) SE.el oE rfl ol oa (h3.trans EE) N1.1 h4)) (by assumption) rfl rfl (Nat.le_of_ble_eq_true rfl) ⟨(Nat.le_of_ble_eq_true rfl), (Nat.le_of_ble_eq_true rfl)⟩ (by omega) (fun v hF hp_ => ?_) (fun _ _ hx => hx.elim)
        obtain ⟨rfl, ar', g', AF, g1', g2', EF, a0', UF⟩ := hp_
        have cE := AE.2.1
        have hS : ∀ x ∈ [l, ar], hE.2 x = none ∨ ∃ d : Cel, hE.2 x = some d ∧ ∀ (n : Nat) (y : Nat → Value), d ≠ .inr (0, n, y) := fun x hx => by
          have hx' : x = l ∨ x = ar := by simpa using hx
          rcases hx' with z | z
          · exact Or.inr ⟨_, by rw [z]; exact lE, fun n y e => (by cases e)⟩
          · exact Or.inr ⟨_, by rw [z]; exact cE, fun n y e => (by cases e)⟩
        refine k_pop C dX3_lastRows_81 rfl ?_
        refine k_iinc C dX3_lastRows_82 rfl rfl ?_
        refine k_goto C dX3_lastRows_85 (tgt := 10) (by decide) ?_
        refine Wk.sub (by repeat (first | exact trivial | apply Lle.so | apply Lle.no)) (ih (i + 1) ar' _ _ hF g' (acc ++ [_]) (by omega) (by rw [len1]; omega) ?_ ?_ (by rw [len1]; exact AF) ((SE.upd UF hS).push g1' g2' (RE.upd UF hS)) EF (fun _ => a0') h5)
        · rw [len1]; omega
        · rw [len1]; omega
      refine k_iload_n C dX3_lastRows_10 rfl ?_
      refine k_aload_n C dX3_lastRows_11 rfl ?_
      refine k_getN C fn_X3_59 dX3_lastRows_12 (by assumption) (by rfl) ?_
      refine k_alen C dX3_lastRows_15 (by assumption) (by rfl) ?_
      refine k_icmp_ge C dX3_lastRows_16 (tgt := 88) (by decide) (by omega) (fun g1 => ?_) (fun g2 => ?_)
      · omega
      · cases hr : T.2 (i : Int) with
        | none =>
          rw [hr] at hc
          have hf : fc (i : Int) = none := hc
          refine k_aload_n C dX3_lastRows_19 rfl ?_
          refine k_getN C fn_X3_59 dX3_lastRows_20 (by assumption) (by rfl) ?_
          refine k_iload_n C dX3_lastRows_23 rfl ?_
          refine k_aald C dX3_lastRows_24 (by assumption) (by rfl) (by rfl) (by omega) hf ?_
          refine k_ifnullN C dX3_lastRows_25 (tgt := 46) (by decide) ?_
          exact put (endsB_none hr)
        | some r =>
          rw [hr] at hc
          obtain ⟨p, g, hf, hp, z0, z1, z2⟩ := hc
          have hp1 := h3.2 _ _ hp
          obtain ⟨u1, u2, u3, u4⟩ := hT.2.2 _ r (by omega) (by omega) hr
          refine k_aload_n C dX3_lastRows_19 rfl ?_
          refine k_getN C fn_X3_59 dX3_lastRows_20 (by assumption) (by rfl) ?_
          refine k_iload_n C dX3_lastRows_23 rfl ?_
          refine k_aald C dX3_lastRows_24 (by assumption) (by rfl) (by rfl) (by omega) hf ?_
          refine k_ifnull C dX3_lastRows_25 ?_
          refine k_aload_n C dX3_lastRows_28 rfl ?_
          refine k_getN C fn_X3_59 dX3_lastRows_29 (by assumption) (by rfl) ?_
          refine k_iload_n C dX3_lastRows_32 rfl ?_
          refine k_aald C dX3_lastRows_33 (by assumption) (by rfl) (by rfl) (by omega) hf ?_
          refine k_iconst C dX3_lastRows_34 ?_
          refine k_iald C dX3_lastRows_35 (by assumption) (by rfl) (by omega) ?_
          rw [z2]
          refine k_aload_n C dX3_lastRows_36 rfl ?_
          refine k_getN C fn_X3_52 dX3_lastRows_37 (by assumption) (by rfl) ?_
          refine k_icmp_ge C dX3_lastRows_40 (tgt := 46) (by decide) (by omega) (fun g3 => ?_) (fun g4 => ?_)
          · exact put (by rw [endsB_some hr]; exact decide_eq_true (by omega))
          · rw [colK_none (by unfold endRow; rw [endsB_some hr, decide_eq_false (by omega)]; rfl)] at h5
            refine k_goto C dX3_lastRows_43 (tgt := 82) (by decide) ?_
            refine k_iinc C dX3_lastRows_82 rfl rfl ?_
            refine k_goto C dX3_lastRows_85 (tgt := 10) (by decide) ?_
            exact ih (i + 1) ar n k hh f acc (by omega) (by omega) hn hk h1 h2 h3 h4 h5
  refine Wk.wf fun _ _ _ hc => ?_
  exact loop (2 * T.1) 0 (w.ad 5) _ _ h2 (fun _ => none) [] (by omega) (Nat.le_refl _) rfl rfl ⟨l2, hc.2.2.2.2.2.1, Nat.le_refl _, by decide, fun _ => rfl⟩ (fun k r e => by simp at e) E2 (fun z => absurd z (by decide)) rfl
