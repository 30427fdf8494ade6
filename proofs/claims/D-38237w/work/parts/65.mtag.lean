/-! ===== the model: tag ===== -/
set_option maxRecDepth 100000
theorem mtag_step {w : Wd} {h hM h' : Hp} {m a q : Nat} {L : ML} {σ : Sg} {th : Int} {s : Int64} {g : Tg} {g' : Int → Option Nat} (H : isMo w hM m L σ th s) (hsep : sepM L σ.n σ.k) (E0 : ∀ q c, h.2 q = some c → hM.2 q ≠ none) (Um : UpdP h hM (fun q => q = m)) (Tn : isTw hM a g)
    (Ln : isAL w h' L.lt q (σ.k + 1) (ncp σ.k L.ct) g') (hg : ∀ i : Nat, i < σ.k → g' i = some (L.B i)) (gn : g' (σ.k : Int) = some a) (U : (σ.k < L.ct ∧ q = L.at ∧ Upd hM h' [L.lt, L.at]) ∨ (σ.k = L.ct ∧ hM.2 q = none ∧ Upd hM h' [L.lt])) : stepM w h h' m L σ (addT σ g) th s := by
  obtain ⟨⟨s1, s2⟩, s3, s4, s5⟩ := hsep
  obtain ⟨hm, ⟨f, A, F⟩, ⟨ft, At, Ft⟩, M, TG⟩ := id H
  have ltc := At.1
  have atc := At.2.1
  obtain ⟨S, hU, hS, hq⟩ : ∃ S, Upd hM h' S ∧ (∀ y ∈ S, y = L.lt ∨ (0 < L.ct ∧ y = L.at)) ∧ ((0 < L.ct ∧ q = L.at) ∨ hM.2 q = none) := by
    rcases U with ⟨u1, u2, u3⟩ | ⟨u1, u2, u3⟩
    · exact ⟨_, u3, fun y hy => by
        have hy' : y = L.lt ∨ y = L.at := by simpa using hy
        exact hy'.imp id (fun z => ⟨by omega, z⟩), Or.inl ⟨by omega, u2⟩⟩
    · exact ⟨_, u3, fun y hy => Or.inl (by simpa using hy), Or.inr u2⟩
  have hcls : okS hM S := fun y hy => by
    rcases hS y hy with z | ⟨-, z⟩
    · exact Or.inr ⟨_, by rw [z]; exact ltc, Or.inl ⟨_, rfl⟩⟩
    · exact Or.inr ⟨_, by rw [z]; exact atc, Or.inr (Or.inl ⟨_, _, rfl⟩)⟩
  have notin : ∀ (y : Nat) (d : Cel), hM.2 y = some d → (∀ v : List Value, d ≠ .inl (14, v)) → (∀ (n : Nat) (v : Nat → Value), d ≠ .inr (4, n, v)) → y ∉ S := fun y d e k1 k2 hy => by
    rcases hS y hy with z | ⟨-, z⟩
    · rw [z, ltc] at e; exact k1 _ (Option.some.inj e).symm
    · rw [z, atc] at e; exact k2 _ _ (Option.some.inj e).symm
  have lmS : L.lm ∉ S := fun hy => by
    rcases hS _ hy with z | ⟨-, z⟩
    · exact s3 z
    · exact ne_cel A.1 atc ne_ao z
  have amS : L.am ∉ S := fun hy => by
    rcases hS _ hy with z | ⟨z0, z⟩
    · exact ne_cel A.2.1 ltc ne_oa z
    · by_cases hc : 0 < L.cm
      · exact s4 hc z0 z
      · have e := A.2.1
        rw [z, atc] at e
        have e2 := (Prod.mk.inj (Prod.mk.inj (Sum.inr.inj (Option.some.inj e))).2).1
        omega
  refine ⟨(L.1, (L.lt, q, ncp σ.k L.ct), L.A, upN L.B σ.k a), ⟨hU.2 _ _ hm (notin _ _ hm (fun v e => by cases e) (fun n v e => by cases e)), ⟨f, A.upd hU lmS amS, F⟩, ⟨g', Ln, fun i hi => ?_⟩, fun i hi => ?_, fun i hi => ?_⟩, ⟨⟨s1, ?_⟩, s3, fun z0 z1 => ?_, s5⟩, ?_, fun y hy => ?_⟩
  · show g' (i : Int) = some (upN L.B σ.k a i)
    have hi' : i < σ.k + 1 := hi
    by_cases e : i = σ.k
    · subst e; rw [upN_at]; exact gn
    · rw [upN_ne e]; exact hg i (by omega)
  · obtain ⟨e1, f1, e2, -⟩ := id (M i hi)
    exact (M i hi).keep hU (notin _ _ e1 (fun v e => by cases e) (fun n v e => by cases e)) (notin _ _ e2 (fun v e => by cases e) (fun n v e => by cases e)) hcls
  · show isTw h' (upN L.B σ.k a i) (upN σ.tg σ.k g i)
    have hi' : i < σ.k + 1 := hi
    by_cases e : i = σ.k
    · subst e; rw [upN_at, upN_at]; exact Tn.keep hU hcls
    · rw [upN_ne e, upN_ne e]; exact (TG i (by omega)).keep hU hcls
  · show ncp σ.k L.ct = capOf (σ.k + 1)
    rw [s2]; rfl
  · show L.am ≠ q
    rcases hq with ⟨y0, y1⟩ | y1
    · rw [y1]; exact s4 z0 y0
    · exact (ne_some y1 A.2.1).symm
  · refine ⟨Nat.le_trans Um.1 hU.1, fun y d e hy => hU.2 _ _ (Um.2 _ _ e (fun z => hy (Or.inl z))) (fun hyS => ?_)⟩
    rcases hS y hyS with z | ⟨z0, z⟩
    · exact hy (Or.inr (Or.inr (Or.inr (Or.inl z))))
    · exact hy (Or.inr (Or.inr (Or.inr (Or.inr (Or.inl ⟨z0, z⟩)))))
  · have none_of : hM.2 y = none → h.2 y = none := fun z => by
      cases e : h.2 y with
      | none => rfl
      | some d => exact absurd z (E0 y d e)
    rcases hy with z | z | ⟨z0, z⟩ | z | ⟨z0, z⟩ | ⟨i, hi, z⟩
    · exact Or.inl (Or.inl z)
    · exact Or.inl (Or.inr (Or.inl z))
    · exact Or.inl (Or.inr (Or.inr (Or.inl ⟨z0, z⟩)))
    · exact Or.inl (Or.inr (Or.inr (Or.inr (Or.inl z))))
    · rcases hq with ⟨y0, y1⟩ | y1
      · exact Or.inl (Or.inr (Or.inr (Or.inr (Or.inr (Or.inl ⟨y0, by rw [z]; exact y1⟩)))))
      · exact Or.inr (none_of (by rw [z]; exact y1))
    · exact Or.inl (Or.inr (Or.inr (Or.inr (Or.inr (Or.inr ⟨i, hi, z⟩)))))
theorem c_mTagX {w : Wd} {h : Hp} {m : Nat} {L : ML} {σ : Sg} {th c z o : Int} {s : Int64} (H : isMo w h m L σ th s) (hsep : sepM L σ.n σ.k) (hσ : SgOk σ) (hc : i32 c) (hz : i32 z) (ho : i32 o) : Ct w yX3_tag (ws_ yX3_tag cX3_tag 5 (some FieldType.int)) 8 211 2 28 [.ref m, jI c, jI z, jI o] h (fun v h' => ∃ r, v = some (jI r) ∧ (tgK σ c z o = 0 → r = (σ.k : Nat) ∧ stepM w h h' m L σ (addT σ (c.toNat, z.toNat, o.toNat)) 0 s) ∧ (tgK σ c z o ≠ 0 → stepM w h h' m L σ σ (tgK σ c z o : Nat) s)) NoX := by
  have hm := H.1
  have hk := hσ.2.1
  unfold i32 at hc hz ho
  unfold tgK
  refine Ct.of (by decide) [some (.ref m), some (jI c), some (jI z), some (jI o), none] rfl (Nat.le_of_ble_eq_true rfl) (fun K C E N0 => ?_)
  refine k_aload_n C dX3_tag_0 rfl ?_
  refine k_iconst C dX3_tag_1 ?_
  refine k_put C fg_X3_19 ft_2_0 dX3_tag_2 (by assumption) rfl rfl rfl (fun h1 P1 => ?_)
  have H1 := H.own P1
  have hm1 := H1.1
  have U1 := P1.upd
  have bad : ∀ n k : Nat, n ≤ 1 → k ≤ 1 → ¬ ((1 ≤ c ∧ c ≤ 3) ∧ (1 ≤ z ∧ z ≤ 63) ∧ (1 ≤ o ∧ o ≤ 63)) → Wk w K h1 n k 34 [some (.ref m), some (jI c), some (jI z), some (jI o), none] [] := by
    intro n k hn hk hne
    rw [if_neg hne] at E
    refine k_aload_n C dX3_tag_34 rfl ?_
    refine k_iconst C dX3_tag_35 ?_
    refine kx_V C rfl mv_X3_31 dX3_tag_36 ((c_mRefuse (z := 1) H1)) (by assumption) rfl rfl (Nat.le_of_ble_eq_true rfl) ⟨(Nat.le_of_ble_eq_true rfl), (Nat.le_of_ble_eq_true rfl)⟩ (by omega) (fun v h2 hp_ => ?_) (fun _ _ hx => hx.elim)
    obtain ⟨rfl, H2, U2⟩ := hp_
    exact k_iret C E dX3_tag_39 (by omega) ⟨_, rfl, fun z => (by cases z), fun _ => q_step H2 hsep (U1.trans U2 (fun x hx => Or.inl hx))⟩
  refine k_iload_n C dX3_tag_5 rfl ?_
  refine k_iconst C dX3_tag_6 ?_
  refine k_iconst C dX3_tag_7 ?_
  refine kx_S C rfl ms_X3_27 dX3_tag_8 ((c_is (v := c) (a := 1) (b := 3) (by unfold i32 at *; omega))) rfl rfl (Nat.le_of_ble_eq_true rfl) ⟨(Nat.le_of_ble_eq_true rfl), (Nat.le_of_ble_eq_true rfl)⟩ (by omega) (fun v k1 hp_ => ?_) (fun _ _ hx => hx.elim)
  obtain ⟨rfl, rfl⟩ := hp_
  by_cases g1 : 1 ≤ c ∧ c ≤ 3
  · rw [decide_eq_true g1]
    refine k_ifeq_b C dX3_tag_11 (tgt := 34) (by decide) (fun z => by cases z) (fun _ => ?_)
    refine k_iload_n C dX3_tag_14 rfl ?_
    refine k_iconst C dX3_tag_15 ?_
    refine k_bipush C dX3_tag_16 (by decide) ?_
    refine kx_S C rfl ms_X3_27 dX3_tag_18 ((c_is (v := z) (a := 1) (b := 63) (by unfold i32 at *; omega))) rfl rfl (Nat.le_of_ble_eq_true rfl) ⟨(Nat.le_of_ble_eq_true rfl), (Nat.le_of_ble_eq_true rfl)⟩ (by omega) (fun v k1 hp_ => ?_) (fun _ _ hx => hx.elim)
    obtain ⟨rfl, rfl⟩ := hp_
    by_cases g2 : 1 ≤ z ∧ z ≤ 63
    · rw [decide_eq_true g2]
      refine k_ifeq_b C dX3_tag_21 (tgt := 34) (by decide) (fun z => by cases z) (fun _ => ?_)
      refine k_iload_n C dX3_tag_24 rfl ?_
      refine k_iconst C dX3_tag_25 ?_
      refine k_bipush C dX3_tag_26 (by decide) ?_
      refine kx_S C rfl ms_X3_27 dX3_tag_28 ((c_is (v := o) (a := 1) (b := 63) (by unfold i32 at *; omega))) rfl rfl (Nat.le_of_ble_eq_true rfl) ⟨(Nat.le_of_ble_eq_true rfl), (Nat.le_of_ble_eq_true rfl)⟩ (by omega) (fun v k1 hp_ => ?_) (fun _ _ hx => hx.elim)
      obtain ⟨rfl, rfl⟩ := hp_
      by_cases g3 : 1 ≤ o ∧ o ≤ 63
      · rw [decide_eq_true g3]
        refine k_ifne_b C dX3_tag_31 (tgt := 40) (by decide) (fun _ => ?_) (fun z => by cases z)
        rw [if_pos ⟨g1, g2, g3⟩] at E
        obtain ⟨ft, At, Ft⟩ := H1.2.2.1
        have l1 := At.1
        refine k_aload_n C dX3_tag_40 rfl ?_
        refine k_get C fg_X3_16 dX3_tag_41 (by assumption) (by rfl) ?_
        refine kx_V C rfl mv_X3_23 dX3_tag_44 ((c_size l1)) (by assumption) rfl rfl (Nat.le_of_ble_eq_true rfl) ⟨(Nat.le_of_ble_eq_true rfl), (Nat.le_of_ble_eq_true rfl)⟩ (by omega) (fun v k1 hp_ => ?_) (fun _ _ hx => hx.elim)
        obtain ⟨rfl, rfl⟩ := hp_
        refine k_iconst C dX3_tag_47 ?_
        refine k_icmp_ne C dX3_tag_48 (tgt := 57) (by decide) (by omega) (fun g4 => ?_) (fun g5 => ?_)
        · rw [if_pos (by omega)] at E
          obtain ⟨c', hc'⟩ : ∃ S : Nat, c = (S : Int) := ⟨c.toNat, by omega⟩
          obtain ⟨z', hz'⟩ : ∃ S : Nat, z = (S : Int) := ⟨z.toNat, by omega⟩
          obtain ⟨o', ho'⟩ : ∃ S : Nat, o = (S : Int) := ⟨o.toNat, by omega⟩
          subst hc' hz' ho'
          rw [show ((c' : Nat) : Int).toNat = c' from rfl, show ((z' : Nat) : Int).toNat = z' from rfl, show ((o' : Nat) : Int).toNat = o' from rfl] at *
          refine k_iconst C dX3_tag_57 ?_
          refine k_newarr (kd := 0) (g := fun j : Nat => jI ((fun _ => 0 : Int → Int) (j : Int))) C q358 rfl rfl (fun _ => rfl) dX3_tag_58 (by omega) (by decide) (by omega) (fun a h2 N2 => ?_)
          have n2 : h2.2 a = some (aI 0 3 (fun _ => 0)) := N2.2.1
          refine k_dup C dX3_tag_60 rfl ?_
          refine k_iconst C dX3_tag_61 ?_
          refine k_iload_n C dX3_tag_62 rfl ?_
          refine k_iast C dX3_tag_63 (by assumption) (by omega) (fun h3 P3 => ?_)
          have n3 := P3.2.1
          refine k_dup C dX3_tag_64 rfl ?_
          refine k_iconst C dX3_tag_65 ?_
          refine k_iload_n C dX3_tag_66 rfl ?_
          refine k_iast C dX3_tag_67 (by assumption) (by omega) (fun h4 P4 => ?_)
          have n4 := P4.2.1
          refine k_dup C dX3_tag_68 rfl ?_
          refine k_iconst C dX3_tag_69 ?_
          refine k_iload_n C dX3_tag_70 rfl ?_
          refine k_iast C dX3_tag_71 (by assumption) (by omega) (fun h5 P5 => ?_)
          have N5 := ((N2.put P3).put P4).put P5
          have E5 := N5.2.2.1
          have H5 := H1.ext E5
          have A5 := At.ext E5
          have a5 := N5.2.1
          have T5 : isTw h5 a (c', z', o') := ⟨_, a5, by rw [up_ne (by decide), up_ne (by decide), up_at], by rw [up_ne (by decide), up_at], up_at⟩
          have el : isEl h5 σ.k ft := fun j j0 j1 => by
            have hj := Ft j.toNat (by omega)
            rw [show ((j.toNat : Nat) : Int) = j by omega] at hj
            obtain ⟨fy, ey, -⟩ := H5.2.2.2.2 j.toNat (by omega)
            exact ⟨_, _, hj, ey, rfl⟩
          have hct := hsep.1.2
          have hlt : L.ct ≤ 15 := by
            rw [hct]
            have : ∀ n, n < 12 → capOf n ≤ 15 := by decide
            exact this σ.k (by omega)
          have hcost : gcC σ.k L.ct ≤ 1 ∧ gcS σ.k L.ct ≤ 15 := by
            rw [hct]
            have : ∀ n, n < 12 → gcC n (capOf n) ≤ 1 ∧ gcS n (capOf n) ≤ 15 := by decide
            exact this σ.k (by omega)
          have al : a ≠ L.lt := ne_some N5.1 At.1
          have m5 := E5.2 _ _ hm1
          have l5 := A5.1
          have aa : a ≠ L.at := ne_some N5.1 At.2.1
          refine k_astore C dX3_tag_72 (Nat.le_of_ble_eq_true rfl) rfl ?_
          refine k_aload_n C dX3_tag_74 rfl ?_
          refine k_get C fg_X3_16 dX3_tag_75 (by assumption) (by rfl) ?_
          refine k_aload C dX3_tag_78 rfl ?_
          refine kx_V C rfl mv_X3_40 dX3_tag_80 ((c_add A5 (by omega) el a5 rfl al aa)) (by assumption) rfl rfl (Nat.le_of_ble_eq_true rfl) ⟨(Nat.le_of_ble_eq_true rfl), (Nat.le_of_ble_eq_true rfl)⟩ (by omega) (fun v h6 hp_ => ?_) (fun _ _ hx => hx.elim)
          obtain ⟨rfl, q, g', r1, r2, r3, r4⟩ := hp_
          have l6 := r1.1
          have st := mtag_step H5 hsep (fun y c e => by
            by_cases ym : y = m
            · rw [ym, E5.2 _ _ hm1]; exact fun z => by cases z
            · rw [E5.2 _ _ (P1.2.2 _ _ e ym)]; exact fun z => by cases z) ((U1.updP (P := fun q => q = m) (fun y hy => by simpa using hy)).trans (E5.updP (fun q => q = m)) (fun y hy => Or.inl hy)) T5 r1 (fun i hi => by rw [r2 i (by omega) (by omega)]; exact Ft i hi) r3 r4
          have m6 : ∃ v, h6.2 m = some (.inl (2, [v, .ref L.lm, .ref L.lt, jI ((σ.tk : Nat) + (σ.rf : Nat)), jI (σ.tk : Nat), jI (σ.bk : Nat), .long s])) := by
            have m3 := E5.2 _ _ hm1
            rcases r4 with ⟨-, -, u⟩ | ⟨-, -, u⟩
            · exact ⟨_, u.2 _ _ m3 (by simp [ne_cel m3 A5.1 (ne_cls (by decide)), ne_cel m3 A5.2.1 ne_ao])⟩
            · exact ⟨_, u.2 _ _ m3 (by simp [ne_cel m3 A5.1 (ne_cls (by decide))])⟩
          obtain ⟨vv, m6⟩ := m6
          refine k_pop C dX3_tag_83 rfl ?_
          refine k_aload_n C dX3_tag_84 rfl ?_
          refine k_get C fg_X3_16 dX3_tag_85 (by assumption) (by rfl) ?_
          refine kx_V C rfl mv_X3_23 dX3_tag_88 ((c_size l6)) (by assumption) rfl rfl (Nat.le_of_ble_eq_true rfl) ⟨(Nat.le_of_ble_eq_true rfl), (Nat.le_of_ble_eq_true rfl)⟩ (by omega) (fun v k7 hp_ => ?_) (fun _ _ hx => hx.elim)
          obtain ⟨rfl, rfl⟩ := hp_
          refine k_iconst C dX3_tag_91 ?_
          refine k_isub C dX3_tag_92 ?_
          rw [show ((σ.k + 1 : Nat) : Int) - 1 = (σ.k : Nat) by omega]
          exact k_iret C E dX3_tag_93 (by omega) ⟨_, rfl, fun _ => ⟨rfl, st⟩, fun z => absurd rfl z⟩
        · rw [if_neg (by omega)] at E
          refine k_aload_n C dX3_tag_51 rfl ?_
          refine k_iconst C dX3_tag_52 ?_
          refine kx_V C rfl mv_X3_31 dX3_tag_53 ((c_mRefuse (z := 2) H1)) (by assumption) rfl rfl (Nat.le_of_ble_eq_true rfl) ⟨(Nat.le_of_ble_eq_true rfl), (Nat.le_of_ble_eq_true rfl)⟩ (by omega) (fun v h2 hp_ => ?_) (fun _ _ hx => hx.elim)
          obtain ⟨rfl, H2, U2⟩ := hp_
          exact k_iret C E dX3_tag_56 (by omega) ⟨_, rfl, fun z => (by cases z), fun _ => q_step H2 hsep (U1.trans U2 (fun x hx => Or.inl hx))⟩
      · rw [decide_eq_false g3]
        refine k_ifne_b C dX3_tag_31 (tgt := 40) (by decide) (fun z => by cases z) (fun _ => ?_)
        exact bad _ _ (by decide) (by decide) (fun z => g3 z.2.2)
    · rw [decide_eq_false g2]
      refine k_ifeq_b C dX3_tag_21 (tgt := 34) (by decide) (fun _ => ?_) (fun z => by cases z)
      exact bad _ _ (by decide) (by decide) (fun z => g2 z.2.1)
  · rw [decide_eq_false g1]
    refine k_ifeq_b C dX3_tag_11 (tgt := 34) (by decide) (fun _ => ?_) (fun z => by cases z)
    exact bad _ _ (by decide) (by decide) (fun z => g1 z.1)
