/-! ===== the model's least cycle ===== -/
set_option maxRecDepth 100000
def inn (e : Nat) : Nat → Nat
  | 0 => 0
  | a + 1 => inn e a + (22 + 2 * a + 2 * e)
def outS : Nat → Nat
  | 0 => 0
  | n + 1 => outS n + inn (n + 1) (n + 1)
def outC : Nat → Nat
  | 0 => 0
  | n + 1 => outC n + 4 * (n + 1)
theorem inn_le {e a b : Nat} (h : a ≤ b) : inn e a ≤ inn e b := by
  induction b with
  | zero => rw [show a = 0 by omega]; exact Nat.le_refl _
  | succ b ih =>
    by_cases z : a = b + 1
    · rw [z]; exact Nat.le_refl _
    · exact Nat.le_trans (ih (by omega)) (Nat.le_add_right _ _)
theorem out_le {a b : Nat} (h : a ≤ b) : outS a ≤ outS b ∧ outC a ≤ outC b := by
  induction b with
  | zero => rw [show a = 0 by omega]; exact ⟨Nat.le_refl _, Nat.le_refl _⟩
  | succ b ih =>
    by_cases z : a = b + 1
    · rw [z]; exact ⟨Nat.le_refl _, Nat.le_refl _⟩
    · exact ⟨Nat.le_trans (ih (by omega)).1 (Nat.le_add_right _ _), Nat.le_trans (ih (by omega)).2 (Nat.le_add_right _ _)⟩
def mkC (b : Nat) : Nat := 3 + outC b
def mkS (b : Nat) : Nat := 12 + 3 * b + outS b
theorem c_mCycleNow {w : Wd} {h : Hp} {md cs b : Nat} {T : Tb} {kv av bv : Int} (G : isMd h md cs T kv av bv) (hT : TbOk T) (hb : 1 ≤ b ∧ b < 400) : Ct w yX3_cycleNow (ws_ yX3_cycleNow cX3_cycleNow 6 (some FieldType.int)) 5 115 (mkC b) (mkS b) [.ref md, jI (b : Nat)] h (fun v h' => v = some (jI (cycNow T b)) ∧ Ext h h') NoX := by
  have eC : mkC b = 3 + outC b := rfl
  have eS : mkS b = 12 + 3 * b + outS b := rfl
  have rb := runN_c0 hT b
  refine Ct.of (by decide) [some (.ref md), some (jI (b : Nat)), none, none, none, none] rfl (Nat.le_of_ble_eq_true rfl) (fun K C E N0 => ?_)
  refine k_new C nw_X3_86 dX3_cycleNow_0 (by omega) (fun q h1 N1 => ?_)
  have q1 := N1.2.1
  refine k_dup C dX3_cycleNow_3 rfl ?_
  refine k_aload_n C dX3_cycleNow_4 rfl ?_
  refine k_iload_n C dX3_cycleNow_5 rfl ?_
  refine kx_I C rfl mi_X3_126 dX3_cycleNow_6 ((c_rnInit (R := b) (by omega) q1)) rfl rfl (Nat.le_of_ble_eq_true rfl) ⟨(Nat.le_of_ble_eq_true rfl), (Nat.le_of_ble_eq_true rfl)⟩ (by omega) (fun v h2 hp_ => ?_) (fun _ _ hx => hx.elim)
  obtain ⟨rfl, tp, t2, W2, U2⟩ := hp_
  have F2 := wk_made N1 t2 U2 ((Ext.refl h2).upd [q, tp])
  refine k_astore_n C dX3_cycleNow_9 (Nat.le_of_ble_eq_true rfl) rfl ?_
  refine k_iload_n C dX3_cycleNow_10 rfl ?_
  refine k_iconst C dX3_cycleNow_11 ?_
  refine k_iadd C dX3_cycleNow_12 ?_
  refine k_newarr (kd := 0) (g := fun j : Nat => jI ((fun _ => 0 : Int → Int) (j : Int))) C q358 rfl rfl (fun _ => rfl) dX3_cycleNow_13 (by omega) (by decide) (by omega) (fun sa h3 N3 => ?_)
  rw [show ((b : Int) + 1).toNat = b + 1 by omega] at N3 ⊢
  have W3 := W2.ext N3.2.2.1
  have s3 : h3.2 sa = some (aI 0 (b + 1) (fun _ => 0)) := N3.2.1
  have saq : sa ≠ q := Ne.symm (N3.ne W2.1)
  have sat : sa ≠ tp := Ne.symm (N3.ne W2.2)
  have sa0 : h.2 sa = none := F2.1.old N3.1
  have E3 := F2.1.trans N3.2.2.1
  -- the search, behind the walk
  have search : ∀ (hh : Hp) (g : Int → Int), isRn hh q md tp b (runN T b c0) → hh.2 sa = some (aI 0 (b + 1) g) → (∀ j : Nat, j ≤ (runN T b c0).n → g j = (runN T j c0).st) → Ext h hh → Wk w K hh 3 (12 + 3 * b) 44 [some (.ref md), some (jI (b : Nat)), some (.ref q), some (.ref sa), none, none] [] := by
    intro hh g W hs hg E0
    have outer : ∀ (d e : Nat) (hh : Hp), e + d = (runN T b c0).n + 1 → 1 ≤ e → (fnd (cycE T) e d).getD (-1) = cycNow T b → isRn hh q md tp b (runN T b c0) → hh.2 sa = some (aI 0 (b + 1) g) → Ext h hh → Wk w K hh (3 + outC (e - 1)) (12 + 3 * b + outS (e - 1)) 47 [some (.ref md), some (jI (b : Nat)), some (.ref q), some (.ref sa), some (jI (e : Nat)), none] [] := by
      intro d
      induction d with
      | zero =>
        intro e hh hi h1 hr W hs E0
        have W1 := W.1
        have ol := out_le (show e - 1 ≤ b by omega)
        refine k_iload C dX3_cycleNow_47 rfl ?_
        refine k_aload_n C dX3_cycleNow_49 rfl ?_
        refine k_getN C fn_X3_112 dX3_cycleNow_50 (by assumption) (by rfl) ?_
        refine k_icmp_gt C dX3_cycleNow_53 (tgt := 116) (by decide) (by omega) (fun g1 => ?_) (fun g2 => ?_)
        · refine k_iconst C dX3_cycleNow_116 ?_
          rw [show (-1 : Int) = cycNow T b from hr]
          exact k_iret C E dX3_cycleNow_117 (by omega) ⟨rfl, E0⟩
        · omega
      | succ d ih =>
        intro e hh hi h1 hr W hs E0
        have W1 := W.1
        have he := runN_full (T := T) (k := e) (m := b) (by omega)
        have ol := out_le (show e ≤ b by omega)
        obtain ⟨e', rfl⟩ : ∃ e', e = e' + 1 := ⟨e - 1, by omega⟩
        have oS : outS (e' + 1) = outS e' + inn (e' + 1) (e' + 1) := rfl
        have oC : outC (e' + 1) = outC e' + 4 * (e' + 1) := rfl
        rw [show e' + 1 - 1 = e' by omega]
        have inner : ∀ (d' a : Nat) (hh : Hp), a + d' = e' + 1 → fnd (cycA T (e' + 1)) a d' = cycE T (e' + 1) → isRn hh q md tp b (runN T b c0) → hh.2 sa = some (aI 0 (b + 1) g) → Ext h hh → Wk w K hh (3 + outC e' + 4 * a) (12 + 3 * b + outS e' + inn (e' + 1) a) 59 [some (.ref md), some (jI (b : Nat)), some (.ref q), some (.ref sa), some (jI ((e' + 1 : Nat) : Int)), some (jI (a : Nat))] [] := by
          intro d'
          induction d' with
          | zero =>
            intro a hh ha hr2 W hs E0
            have ea : a = e' + 1 := by omega
            subst ea
            refine k_iload C dX3_cycleNow_59 rfl ?_
            refine k_iload C dX3_cycleNow_61 rfl ?_
            refine k_icmp_ge C dX3_cycleNow_63 (tgt := 110) (by decide) (by omega) (fun g3 => ?_) (fun g4 => ?_)
            · refine k_iinc C dX3_cycleNow_110 rfl rfl ?_
              refine k_goto C dX3_cycleNow_113 (tgt := 47) (by decide) ?_
              rw [fnd_none hr2.symm] at hr
              have z := ih (e' + 1 + 1) hh (by omega) (by omega) hr W hs E0
              rw [show e' + 1 + 1 - 1 = e' + 1 by omega] at z
              exact Wk.sub (by repeat (first | exact trivial | apply Lle.so | apply Lle.no)) (Wk.widen (by omega) (by omega) z)
            · omega
          | succ d' ih' =>
            intro a hh ha hr2 W hs E0
            have il := inn_le (e := e' + 1) (show a + 1 ≤ e' + 1 by omega)
            have ie : inn (e' + 1) (a + 1) = inn (e' + 1) a + (22 + 2 * a + 2 * (e' + 1)) := rfl
            have ga := hg a (by omega)
            have ge := hg (e' + 1) (by omega)
            have ra := runN_c0 hT a
            have re := runN_c0 hT (e' + 1)
            have hT2 := hT.2.1
            obtain ⟨⟨a1, a2⟩, -⟩ := ra.1
            obtain ⟨⟨e1, e2⟩, -⟩ := re.1
            refine k_iload C dX3_cycleNow_59 rfl ?_
            refine k_iload C dX3_cycleNow_61 rfl ?_
            refine k_icmp_ge C dX3_cycleNow_63 (tgt := 110) (by decide) (by omega) (fun g3 => ?_) (fun g4 => ?_)
            · omega
            · refine k_aload_n C dX3_cycleNow_66 rfl ?_
              refine k_iload C dX3_cycleNow_67 rfl ?_
              refine k_iald C dX3_cycleNow_69 (by assumption) (by rfl) (by omega) ?_
              rw [ga]
              refine k_aload_n C dX3_cycleNow_70 rfl ?_
              refine k_iload C dX3_cycleNow_71 rfl ?_
              refine k_iald C dX3_cycleNow_73 (by assumption) (by rfl) (by omega) ?_
              rw [ge]
              refine k_icmp_ne C dX3_cycleNow_74 (tgt := 104) (by decide) (by omega) (fun g5 => ?_) (fun g6 => ?_)
              · have hcb : cycB T a (e' + 1 - a) = false := cycB_of hT (fun z => g5 (by have := z.2.1; rw [show a + (e' + 1 - a) = e' + 1 by omega] at this; exact this))
                rw [fnd_none (by unfold cycA; rw [hcb]; rfl)] at hr2
                refine k_iinc C dX3_cycleNow_104 rfl rfl ?_
                refine k_goto C dX3_cycleNow_107 (tgt := 59) (by decide) ?_
                exact Wk.widen (by omega) (by omega) (ih' (a + 1) hh (by omega) hr2 W hs E0)
              · refine k_aload_n C dX3_cycleNow_77 rfl ?_
                refine k_iload C dX3_cycleNow_78 rfl ?_
                refine k_iload C dX3_cycleNow_80 rfl ?_
                refine k_iload C dX3_cycleNow_82 rfl ?_
                refine k_isub C dX3_cycleNow_84 ?_
                rw [show ((e' + 1 : Nat) : Int) - ((a : Nat) : Int) = ((e' + 1 - a : Nat) : Int) by omega]
                refine kx_S C rfl ms_X3_115 dX3_cycleNow_85 ((c_mIsCycle (b := e' + 1 - a) (G.ext E0) hT (by omega) (by omega))) rfl rfl (Nat.le_of_ble_eq_true rfl) ⟨(Nat.le_of_ble_eq_true rfl), (Nat.le_of_ble_eq_true rfl)⟩ (by omega) (fun v h5 hp_ => ?_) (fun _ _ hx => hx.elim)
                obtain ⟨rfl, E5⟩ := hp_
                refine k_ifeq_b C dX3_cycleNow_88 (tgt := 104) (by decide) (fun g7 => ?_) (fun g8 => ?_)
                · rw [fnd_none (by unfold cycA; rw [g7]; rfl)] at hr2
                  refine k_iinc C dX3_cycleNow_104 rfl rfl ?_
                  refine k_goto C dX3_cycleNow_107 (tgt := 59) (by decide) ?_
                  exact Wk.widen (by omega) (by omega) (ih' (a + 1) h5 (by omega) hr2 (W.ext E5) (E5.2 _ _ hs) (E0.trans E5))
                · rw [fnd_some (by unfold cycA; rw [g8]; rfl)] at hr2
                  rw [fnd_some hr2.symm] at hr
                  refine k_sipush C dX3_cycleNow_91 (by decide) ?_
                  refine k_iload C dX3_cycleNow_94 rfl ?_
                  refine k_imul C dX3_cycleNow_96 ?_
                  refine k_iload C dX3_cycleNow_97 rfl ?_
                  refine k_iadd C dX3_cycleNow_99 ?_
                  refine k_iload C dX3_cycleNow_100 rfl ?_
                  refine k_isub C dX3_cycleNow_102 ?_
                  rw [show (200 * (a : Int) + ((e' + 1 : Nat) : Int) - a) = cycNow T b from hr]
                  exact k_iret C E dX3_cycleNow_103 (by omega) ⟨rfl, E0.trans E5⟩
        refine k_iload C dX3_cycleNow_47 rfl ?_
        refine k_aload_n C dX3_cycleNow_49 rfl ?_
        refine k_getN C fn_X3_112 dX3_cycleNow_50 (by assumption) (by rfl) ?_
        refine k_icmp_gt C dX3_cycleNow_53 (tgt := 116) (by decide) (by omega) (fun g1 => ?_) (fun g2 => ?_)
        · omega
        · refine k_iconst C dX3_cycleNow_56 ?_
          refine k_istore C dX3_cycleNow_57 (Nat.le_of_ble_eq_true rfl) rfl ?_
          exact Wk.widen (by omega) (by simp [inn]) (inner (e' + 1) 0 hh (by omega) rfl W hs E0)
    refine k_iconst C dX3_cycleNow_44 ?_
    refine k_istore C dX3_cycleNow_45 (Nat.le_of_ble_eq_true rfl) rfl ?_
    have z := outer (runN T b c0).n 1 hh (by omega) (by omega) rfl W hs E0
    exact Wk.sub (by repeat (first | exact trivial | apply Lle.so | apply Lle.no)) z
  have walk : ∀ (d : Nat) (hh : Hp) (c : Cf) (g : Int → Int), c.n + d = b → Upd h3 hh [q, tp, sa] → isRn hh q md tp b c → hh.2 sa = some (aI 0 (b + 1) g) → CfOk T c → runN T d c = runN T b c0 → c = runN T c.n c0 → (∀ j : Nat, j ≤ c.n → g j = (runN T j c0).st) → Wk w K hh 3 (12 + 3 * b) 16 [some (.ref md), some (jI (b : Nat)), some (.ref q), some (.ref sa), none, none] [] := by
    intro d
    induction d with
    | zero =>
      intro hh c g hd U W hs ok hr hc hg
      have W1 := W.1
      have E0 : Ext h hh := U.ext0 E3 (by simp [N1.1, F2.2.2.2, sa0])
      have hr' : c = runN T b c0 := hr
      refine k_aload_n C dX3_cycleNow_16 rfl ?_
      refine k_getN C fn_X3_112 dX3_cycleNow_17 (by assumption) (by rfl) ?_
      refine k_iload_n C dX3_cycleNow_20 rfl ?_
      refine k_icmp_ge C dX3_cycleNow_21 (tgt := 44) (by decide) (by omega) (fun g1 => ?_) (fun g2 => ?_)
      · exact search hh g (by rw [← hr']; exact W) hs (by rw [← hr']; exact hg) E0
      · omega
    | succ d ih =>
      intro hh c g hd U W hs ok hr hc hg
      have W1 := W.1
      have E0 : Ext h hh := U.ext0 E3 (by simp [N1.1, F2.2.2.2, sa0])
      refine k_aload_n C dX3_cycleNow_16 rfl ?_
      refine k_getN C fn_X3_112 dX3_cycleNow_17 (by assumption) (by rfl) ?_
      refine k_iload_n C dX3_cycleNow_20 rfl ?_
      refine k_icmp_ge C dX3_cycleNow_21 (tgt := 44) (by decide) (by omega) (fun g1 => ?_) (fun g2 => ?_)
      · omega
      · refine k_aload_n C dX3_cycleNow_24 rfl ?_
        cases hx : nxt T c with
        | none =>
          rw [runN_stop hx] at hr
          refine kx_V C rfl mv_X3_129 dX3_cycleNow_25 ((c_rnStepN (by omega) W (G.ext E0) hT ok (by omega) hx)) (by assumption) rfl rfl (Nat.le_of_ble_eq_true rfl) ⟨(Nat.le_of_ble_eq_true rfl), (Nat.le_of_ble_eq_true rfl)⟩ (by omega) (fun v k1 hp_ => ?_) (fun _ _ hx => hx.elim)
          obtain ⟨rfl, rfl⟩ := hp_
          refine k_ifeq_b C dX3_cycleNow_28 (tgt := 44) (by decide) (fun _ => ?_) (fun z => by cases z)
          exact search k1 g (by rw [← hr]; exact W) hs (by rw [← hr]; exact hg) E0
        | some r =>
          rw [runN_go hx] at hr
          refine kx_V C rfl mv_X3_129 dX3_cycleNow_25 ((c_rnStepS (by omega) W (G.ext E0) hT ok (by omega) hx)) (by assumption) rfl rfl (Nat.le_of_ble_eq_true rfl) ⟨(Nat.le_of_ble_eq_true rfl), (Nat.le_of_ble_eq_true rfl)⟩ (by omega) (fun v k1 hp_ => ?_) (fun _ _ hx => hx.elim)
          obtain ⟨rfl, U4, W4⟩ := hp_
          refine k_ifeq_b C dX3_cycleNow_28 (tgt := 44) (by decide) (fun z => by cases z) (fun _ => ?_)
          have W41 := W4.1
          have s4 := U4.2 _ _ hs (by simp [saq, sat])
          have an : (adv c r).n = c.n + 1 := rfl
          have hc2 : adv c r = runN T (c.n + 1) c0 := by
            rw [runN_add c.n 1 c0, ← hc, runN_go hx]; rfl
          have ok2 := adv_ok hT ok hx
          obtain ⟨⟨z1, z2⟩, -⟩ := id ok2
          have hT2 := hT.2.1
          refine k_aload_n C dX3_cycleNow_31 rfl ?_
          refine k_aload_n C dX3_cycleNow_32 rfl ?_
          refine k_getN C fn_X3_112 dX3_cycleNow_33 (by assumption) (by rfl) ?_
          refine k_aload_n C dX3_cycleNow_36 rfl ?_
          refine k_getN C fn_X3_103 dX3_cycleNow_37 (by assumption) (by rfl) ?_
          refine k_iast C dX3_cycleNow_40 (by assumption) (by omega) (fun k5 P5 => ?_)
          have U5 : Upd h3 k5 [q, tp, sa] := (U.trans U4 (fun x hx => Or.inl (by
            have hx' : x = q ∨ x = tp := by simpa using hx
            rcases hx' with z | z <;> simp [z]))).trans P5.upd (fun x hx => Or.inl (by rw [show x = sa by simpa using hx]; simp))
          refine k_goto C dX3_cycleNow_41 (tgt := 16) (by decide) ?_
          refine ih k5 (adv c r) _ (by show c.n + 1 + d = b; omega) U5 ⟨P5.2.2 _ _ W4.1 (Ne.symm saq), P5.2.2 _ _ W4.2 (Ne.symm sat)⟩ P5.2.1 ok2 hr hc2 (fun j hj => ?_)
          by_cases e : j = c.n + 1
          · subst e; rw [← hc2]; exact up_at
          · rw [up_ne (by omega)]; exact hg j (by omega)
  refine k_astore_n C dX3_cycleNow_15 (Nat.le_of_ble_eq_true rfl) rfl ?_
  exact Wk.widen (n' := 3) (k' := 12 + 3 * b) (by omega) (by omega) (walk b h3 c0 _ (by show 0 + b = b; omega) ((Ext.refl h3).upd _) W3 s3 c0_ok rfl rfl (fun j hj => by
    have : j = 0 := by have e : c0.n = 0 := rfl; omega
    subst this; rfl))
theorem mk_num : mkC 40 = 3283 ∧ mkS 40 = 83772 ∧ mkC 30 = 1863 ∧ mkS 30 = 38232 ∧ mkC 8 = 147 ∧ mkS 8 = 1404 := by decide +kernel
