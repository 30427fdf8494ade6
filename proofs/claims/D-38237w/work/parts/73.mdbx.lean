/-! ===== the model: doubt ===== -/
set_option maxRecDepth 100000
/-- the counts alone put anew -/
def cntG (σ : Sg) (tk rf bk : Nat) : Sg := (σ.n, σ.ms, σ.k, σ.tg, tk, rf, bk)
theorem isMo.cnt {w : Wd} {h h' : Hp} {m tk rf bk : Nat} {L : ML} {σ : Sg} {th th' : Int} {s s' : Int64} (H : isMo w h m L σ th s) (P : Put h h' m (.inl (2, [jI th', .ref L.lm, .ref L.lt, jI ((tk : Nat) + (rf : Nat)), jI (tk : Nat), jI (bk : Nat), .long s']))) : isMo w h' m L (cntG σ tk rf bk) th' s' := by
  obtain ⟨h1, ⟨f, h2, h3⟩, ⟨g, h4, h5⟩, h6, h7⟩ := H
  have oo : ∀ (q c : Nat) (v : List Value), h.2 q = some (.inl (c, v)) → c ≠ 2 → h'.2 q = some (.inl (c, v)) := fun q c v e hc => P.2.2 _ _ e (ne_cel e h1 (ne_cls hc))
  have aa : ∀ (q : Nat) (v : Nat × Nat × (Nat → Value)), h.2 q = some (.inr v) → h'.2 q = some (.inr v) := fun q v e => P.2.2 _ _ e (ne_cel e h1 ne_oa)
  refine ⟨P.2.1, ⟨f, ⟨oo _ _ _ h2.1 (by decide), aa _ _ h2.2.1, h2.2.2⟩, h3⟩, ⟨g, ⟨oo _ _ _ h4.1 (by decide), aa _ _ h4.2.1, h4.2.2⟩, h5⟩, fun i hi => ?_, fun i hi => ?_⟩
  · obtain ⟨e1, f, e2, e3⟩ := h6 i hi
    refine ⟨oo _ _ _ e1 (by decide), f, aa _ _ e2, fun k k0 k1 => ?_⟩
    have e4 := e3 k k0 k1
    show isC h' (f k) ((σ.ms i).1.2 k)
    cases hr : (σ.ms i).1.2 k with
    | none => rw [hr] at e4; exact e4
    | some r =>
      rw [hr] at e4
      obtain ⟨a, g, z1, z2, z3⟩ := e4
      exact ⟨a, g, z1, aa _ _ z2, z3⟩
  · obtain ⟨f, e1, e2⟩ := h7 i hi
    exact ⟨f, aa _ _ e1, e2⟩
def dbtK (κ : Int) : Nat := if 0 ≤ κ ∧ κ ≤ 3 then 0 else 1
def dbtG (κ : Int) (σ : Sg) : Sg := cntG (dbtS κ σ σ.n) σ.tk σ.rf (σ.bk + dbtN κ σ σ.n)
theorem dbtN_le (κ : Int) (σ : Sg) (j : Nat) : dbtN κ σ j ≤ j := by
  induction j with
  | zero => exact Nat.le_refl _
  | succ j ih =>
    show dbtN κ σ j + (if kindN (σ.ms j) = κ then 1 else 0) ≤ j + 1
    split <;> omega
theorem dbtS_0 (κ : Int) (σ : Sg) : dbtS κ σ 0 = σ := rfl
theorem c_mDoubtX {w : Wd} {h : Hp} {m : Nat} {L : ML} {σ : Sg} {th κ : Int} {s : Int64} (H : isMo w h m L σ th s) (hsep : sepM L σ.n σ.k) (hσ : SgOk σ) (hκ : i32 κ) : Ct w yX3_doubt (ws_ yX3_doubt cX3_doubt 5 (some FieldType.int)) 3 81 1 4 [.ref m, jI κ] h (fun r h' => ∃ z : Int, r = some (jI z) ∧ (dbtK κ = 0 → z = (dbtN κ σ σ.n : Nat) ∧ stepM w h h' m L σ (dbtG κ σ) 0 s) ∧ (dbtK κ ≠ 0 → stepM w h h' m L σ σ (dbtK κ : Nat) s)) NoX := by
  have hm := H.1
  have hn := hσ.1
  have hbk := hσ.2.2.2.2
  unfold dbtK
  refine Ct.of (by decide) [some (.ref m), some (jI κ), none, none, none] rfl (Nat.le_of_ble_eq_true rfl) (fun K C E N0 => ?_)
  refine k_aload_n C dX3_doubt_0 rfl ?_
  refine k_iconst C dX3_doubt_1 ?_
  refine k_put C fg_X3_19 ft_2_0 dX3_doubt_2 (by assumption) rfl rfl rfl (fun h1 P1 => ?_)
  have H1 := H.own P1
  have hm1 := H1.1
  have U1 := P1.upd
  refine k_iload_n C dX3_doubt_5 rfl ?_
  refine k_iconst C dX3_doubt_6 ?_
  refine k_iconst C dX3_doubt_7 ?_
  refine kx_S C rfl ms_X3_27 dX3_doubt_8 ((c_is (v := κ) (a := 0) (b := 3) (by unfold i32 at *; omega))) rfl rfl (Nat.le_of_ble_eq_true rfl) ⟨(Nat.le_of_ble_eq_true rfl), (Nat.le_of_ble_eq_true rfl)⟩ (by omega) (fun v k1 hp_ => ?_) (fun _ _ hx => hx.elim)
  obtain ⟨rfl, rfl⟩ := hp_
  by_cases hin : 0 ≤ κ ∧ κ ≤ 3
  · rw [decide_eq_true hin]
    rw [if_pos hin] at E
    refine k_ifne_b C dX3_doubt_11 (tgt := 20) (by decide) (fun _ => ?_) (fun z => by cases z)
    obtain ⟨f0, A0, F0⟩ := H1.2.1
    have l1 := A0.1
    refine k_iconst C dX3_doubt_20 ?_
    refine k_istore_n C dX3_doubt_21 (Nat.le_of_ble_eq_true rfl) rfl ?_
    refine k_aload_n C dX3_doubt_22 rfl ?_
    refine k_get C fg_X3_10 dX3_doubt_23 (by assumption) (by rfl) ?_
    refine kx_V C rfl mv_X3_158 dX3_doubt_26 ((c_iterator l1)) (by assumption) rfl rfl (Nat.le_of_ble_eq_true rfl) ⟨(Nat.le_of_ble_eq_true rfl), (Nat.le_of_ble_eq_true rfl)⟩ (by omega) (fun v k2 hp_ => ?_) (fun _ _ hx => hx.elim)
    obtain ⟨q, rfl, N2⟩ := hp_
    refine k_astore_n C dX3_doubt_29 (Nat.le_of_ble_eq_true rfl) rfl ?_
    have q0 : h.2 q = none := P1.old hm N2.1
    have loop : ∀ (d j : Nat) (g : Hp) (v1 : Value), j + d = σ.n → isMo w g m L (dbtS κ σ j) 0 s → UpdP h g (ownM m L σ.n) → g.2 q = some (.inl (16, [jI j, v1, jI σ.n, .ref L.lm])) → Wk w K g 1 4 30 [some (.ref m), some (jI κ), some (jI (dbtN κ σ j : Nat)), some (.ref q), none] [] := by
      intro d
      induction d with
      | zero =>
        intro j g v1 hj Hg Ug qg
        have hj' : j = σ.n := by omega
        subst hj'
        obtain ⟨f, A, F⟩ := Hg.2.1
        have l1 : g.2 L.lm = some (.inl (14, [jI (σ.n : Nat), .ref L.am, jI (σ.n : Nat)])) := A.1
        have mg : g.2 m = some (.inl (2, [jI 0, .ref L.lm, .ref L.lt, jI ((σ.tk : Nat) + (σ.rf : Nat)), jI (σ.tk : Nat), jI (σ.bk : Nat), .long s])) := Hg.1
        have nle := dbtN_le κ σ σ.n
        refine k_aload_n C dX3_doubt_30 rfl ?_
        refine kx_F C rfl mf_X3_162 dX3_doubt_31 ((c_hasNext (i := σ.n) (n := σ.n) (by omega) qg l1)) (by assumption) rfl rfl (Nat.le_of_ble_eq_true rfl) ⟨(Nat.le_of_ble_eq_true rfl), (Nat.le_of_ble_eq_true rfl)⟩ (by omega) (fun v k1 hp_ => ?_) (fun _ _ hx => hx.elim)
        obtain ⟨rfl, rfl⟩ := hp_
        rw [decide_eq_false (Nat.lt_irrefl σ.n)]
        refine k_ifeq_b C dX3_doubt_36 (tgt := 78) (by decide) (fun _ => ?_) (fun z => by cases z)
        refine k_aload_n C dX3_doubt_78 rfl ?_
        refine k_dup C dX3_doubt_79 rfl ?_
        refine k_get C fg_X3_67 dX3_doubt_80 (by assumption) (by rfl) ?_
        refine k_iload_n C dX3_doubt_83 rfl ?_
        refine k_iadd C dX3_doubt_84 ?_
        refine k_put C fg_X3_67 ft_2_5 dX3_doubt_85 (by assumption) rfl rfl rfl (fun h3 P3 => ?_)
        refine k_iload_n C dX3_doubt_88 rfl ?_
        have H3 := Hg.cnt (tk := σ.tk) (rf := σ.rf) (bk := σ.bk + dbtN κ σ σ.n) P3
        exact k_iret C E dX3_doubt_89 (by omega) ⟨_, rfl, fun _ => ⟨rfl, L, H3, hsep, Ug.trans (P3.upd.updP (P := ownM m L σ.n) (fun y hy => Or.inl (by simpa using hy))) (fun y hy => Or.inl hy), fun _ hy => Or.inl hy⟩, fun z => absurd rfl z⟩
      | succ d ih =>
        intro j g v1 hj Hg Ug qg
        obtain ⟨f, A, F⟩ := Hg.2.1
        have A' : isAL w g L.lm L.am σ.n L.cm f := A
        have hf : f (j : Int) = some (L.A j).1 := F j (by show j < σ.n; omega)
        have l1 := A'.1
        have mok := hσ.2.2.1 j (by omega)
        have hk := kindN_i32 mok
        have hk' := hk
        unfold i32 at hk' hκ
        have nle := dbtN_le κ σ j
        refine k_aload_n C dX3_doubt_30 rfl ?_
        refine kx_F C rfl mf_X3_162 dX3_doubt_31 ((c_hasNext (i := j) (n := σ.n) (by omega) qg l1)) (by assumption) rfl rfl (Nat.le_of_ble_eq_true rfl) ⟨(Nat.le_of_ble_eq_true rfl), (Nat.le_of_ble_eq_true rfl)⟩ (by omega) (fun v k1 hp_ => ?_) (fun _ _ hx => hx.elim)
        obtain ⟨rfl, rfl⟩ := hp_
        rw [decide_eq_true (show j < σ.n by omega)]
        refine k_ifeq_b C dX3_doubt_36 (tgt := 78) (by decide) (fun z => by cases z) (fun _ => ?_)
        refine k_aload_n C dX3_doubt_39 rfl ?_
        refine kx_F C rfl mf_X3_167 dX3_doubt_40 ((c_next A' (i := j) (by omega) hf qg)) (by assumption) rfl rfl (Nat.le_of_ble_eq_true rfl) ⟨(Nat.le_of_ble_eq_true rfl), (Nat.le_of_ble_eq_true rfl)⟩ (by omega) (fun v g1 hp_ => ?_) (fun _ _ hx => hx.elim)
        obtain ⟨rfl, P1⟩ := hp_
        have H1 := Hg.it qg P1.upd
        have q1 := P1.2.1
        have U1 : UpdP h g1 (ownM m L σ.n) := Ug.trans (P1.upd.updP (P := fun y => y = q) (fun y hy => by simpa using hy)) (fun y hy => Or.inr (by rw [hy]; exact q0))
        have M := H1.2.2.2.1 j (by show j < σ.n; omega)
        rw [dbtS_at] at M
        have M1 := M.1
        refine k_castO C ck_X3_35_5 dX3_doubt_45 (by assumption) ?_
        refine k_astore C dX3_doubt_48 (Nat.le_of_ble_eq_true rfl) rfl ?_
        refine k_iload_n C dX3_doubt_50 rfl ?_
        refine k_aload C dX3_doubt_51 rfl ?_
        refine k_getN C fn_X3_175 dX3_doubt_53 (by assumption) (by rfl) ?_
        refine k_iload_n C dX3_doubt_56 rfl ?_
        refine k_icmp_ne C dX3_doubt_57 (tgt := 72) (by decide) (by omega) (fun c1 => ?_) (fun c2 => ?_)
        · have r := ih (j + 1) g1 _ (by omega) (by rw [dbtS_miss c1]; exact H1) U1 q1
          rw [show ((dbtN κ σ (j + 1) : Nat) : Int) = (dbtN κ σ j : Nat) + 0 by show ((dbtN κ σ j + (if kindN (σ.ms j) = κ then 1 else 0) : Nat) : Int) = _; rw [if_neg c1]; omega] at r
          refine k_iconst C dX3_doubt_72 ?_
          refine k_iadd C dX3_doubt_73 ?_
          refine k_istore_n C dX3_doubt_74 (Nat.le_of_ble_eq_true rfl) rfl ?_
          refine k_goto C dX3_doubt_75 (tgt := 30) (by decide) ?_
          exact Wk.sub (by repeat (first | exact trivial | apply Lle.so | apply Lle.no)) r
        · refine k_aload C dX3_doubt_60 rfl ?_
          refine kx_V C rfl mv_X3_63 dX3_doubt_62 ((c_mdOpen hk M)) (by assumption) rfl rfl (Nat.le_of_ble_eq_true rfl) ⟨(Nat.le_of_ble_eq_true rfl), (Nat.le_of_ble_eq_true rfl)⟩ (by omega) (fun v g2 hp_ => ?_) (fun _ _ hx => hx.elim)
          obtain ⟨rfl, P2⟩ := hp_
          rw [decide_eq_true (show kindN (σ.ms j) ≠ -1 by omega)]
          refine k_ifeq_b C dX3_doubt_65 (tgt := 72) (by decide) (fun z => by cases z) (fun _ => ?_)
          obtain ⟨e1, fm, e2, e3⟩ := id M
          have hm1 : g1.2 m = some (.inl (2, [jI 0, .ref L.lm, .ref L.lt, jI ((σ.tk : Nat) + (σ.rf : Nat)), jI (σ.tk : Nat), jI (σ.bk : Nat), .long s])) := H1.1
          have hm2 := P2.2.2 _ _ hm1 (ne_cel hm1 e1 (ne_cls (by decide)))
          have Mn : isMd g2 (L.A j).1 (L.A j).2 (σ.ms j).1 (-1) (-1) (-1) := ⟨P2.2.1, fm, P2.2.2 _ _ e2 (ne_cel e2 e1 ne_oa), fun k k0 k1 => (e3 k k0 k1).keep P2.upd (fun y hy n g _ e => by
            rw [show y = (L.A j).1 by simpa using hy, e1] at e
            cases e)⟩
          obtain ⟨r1, r2⟩ := mput_is (i := j) (mc := ((σ.ms j).1, none, -1, -1)) (tk := σ.tk) (rf := σ.rf) (bk := σ.bk) H1 hsep (by show j < σ.n; omega) (Ext.refl _) P2.upd (fun y hy => Or.inr (Or.inl (by simpa using hy))) Mn hm2
          rw [← dbtS_hit c2] at r1
          have q2 := P2.2.2 _ _ q1 (ne_cel q1 e1 (ne_cls (by decide)))
          have r := ih (j + 1) g2 _ (by omega) r1 (U1.trans r2 (fun y hy => Or.inl hy)) q2
          rw [show ((dbtN κ σ (j + 1) : Nat) : Int) = (dbtN κ σ j : Nat) + 1 by show ((dbtN κ σ j + (if kindN (σ.ms j) = κ then 1 else 0) : Nat) : Int) = _; rw [if_pos c2]; omega] at r
          refine k_iconst C dX3_doubt_68 ?_
          refine k_goto C dX3_doubt_69 (tgt := 73) (by decide) ?_
          refine k_iadd C dX3_doubt_73 ?_
          refine k_istore_n C dX3_doubt_74 (Nat.le_of_ble_eq_true rfl) rfl ?_
          refine k_goto C dX3_doubt_75 (tgt := 30) (by decide) ?_
          exact Wk.sub (by repeat (first | exact trivial | apply Lle.so | apply Lle.no)) r
    exact Wk.sub (by repeat (first | exact trivial | apply Lle.so | apply Lle.no)) (loop σ.n 0 k2 _ (by omega) (H1.ext N2.2.2.1) ((U1.updP (P := ownM m L σ.n) (fun y hy => Or.inl (by simpa using hy))).trans (N2.2.2.1.updP (ownM m L σ.n)) (fun y hy => Or.inl hy)) N2.2.1)
  · rw [decide_eq_false hin]
    rw [if_neg hin] at E
    refine k_ifne_b C dX3_doubt_11 (tgt := 20) (by decide) (fun z => by cases z) (fun _ => ?_)
    refine k_aload_n C dX3_doubt_14 rfl ?_
    refine k_iconst C dX3_doubt_15 ?_
    refine kx_V C rfl mv_X3_31 dX3_doubt_16 ((c_mRefuse (z := 1) H1)) (by assumption) rfl rfl (Nat.le_of_ble_eq_true rfl) ⟨(Nat.le_of_ble_eq_true rfl), (Nat.le_of_ble_eq_true rfl)⟩ (by omega) (fun v h2 hp_ => ?_) (fun _ _ hx => hx.elim)
    obtain ⟨rfl, H2, U2⟩ := hp_
    exact k_iret C E dX3_doubt_19 (by omega) ⟨0, rfl, fun z => (by cases z), fun _ => q_step H2 hsep (U1.trans U2 (fun x hx => Or.inl hx))⟩
