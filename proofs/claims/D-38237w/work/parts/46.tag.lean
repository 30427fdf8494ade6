/-! ===== tag ===== -/
set_option maxRecDepth 100000
theorem tag_step {w : Wd} {h hM h' : Hp} {x a wa q : Nat} {X : XL} {σ : Sg} {g : Tg} {g' : Int → Option Nat} (H : isX w h x X σ) (hsep : sepX X σ.n σ.k) (E : Ext h hM) (Tn : isTg hM a wa g)
    (L : isAL w h' X.lt q (σ.k + 1) (ncp σ.k X.ct) g') (hg : ∀ i : Nat, i < σ.k → g' i = some (X.B i).1) (gn : g' (σ.k : Int) = some a) (U : (σ.k < X.ct ∧ q = X.at ∧ Upd hM h' [X.lt, X.at]) ∨ (σ.k = X.ct ∧ hM.2 q = none ∧ Upd hM h' [X.lt])) : stepX w h h' x X σ (addT σ g) := by
  obtain ⟨⟨s1, s2⟩, s3, s4, s5, s6⟩ := hsep
  obtain ⟨hX, ⟨f, A, F⟩, ⟨ft, At, Ft⟩, hgt, M, TG⟩ := id H
  have HM := H.ext E
  obtain ⟨hX', ⟨f', A', F'⟩, ⟨ft', At', Ft'⟩, hgt', M', TG'⟩ := id HM
  have ltc := At'.1
  have atc := At'.2.1
  obtain ⟨S, hU, hS, hq⟩ : ∃ S, Upd hM h' S ∧ (∀ y ∈ S, y = X.lt ∨ (0 < X.ct ∧ y = X.at)) ∧ ((0 < X.ct ∧ q = X.at) ∨ hM.2 q = none) := by
    rcases U with ⟨u1, u2, u3⟩ | ⟨u1, u2, u3⟩
    · exact ⟨_, u3, fun y hy => by
        have hy' : y = X.lt ∨ y = X.at := by simpa using hy
        exact hy'.imp id (fun z => ⟨by omega, z⟩), Or.inl ⟨by omega, u2⟩⟩
    · exact ⟨_, u3, fun y hy => Or.inl (by simpa using hy), Or.inr u2⟩
  have hcls : ∀ y ∈ S, hM.2 y = none ∨ ∃ c : Cel, hM.2 y = some c ∧ ((∃ x, c = .inl (14, x)) ∨ (∃ n x, c = .inr (4, n, x)) ∨ (∃ x, c = .inl (3, x)) ∨ (∃ x, c = .inl (1, x))) := fun y hy => by
    rcases hS y hy with z | ⟨-, z⟩
    · exact Or.inr ⟨_, by rw [z]; exact ltc, Or.inl ⟨_, rfl⟩⟩
    · exact Or.inr ⟨_, by rw [z]; exact atc, Or.inr (Or.inl ⟨_, _, rfl⟩)⟩
  have notin : ∀ (y : Nat) (d : Cel), hM.2 y = some d → (∀ v : List Value, d ≠ .inl (14, v)) → (∀ (n : Nat) (v : Nat → Value), d ≠ .inr (4, n, v)) → y ∉ S := fun y d e k1 k2 hy => by
    rcases hS y hy with z | ⟨-, z⟩
    · rw [z, ltc] at e; exact k1 _ (Option.some.inj e).symm
    · rw [z, atc] at e; exact k2 _ _ (Option.some.inj e).symm
  have lmS : X.lm ∉ S := fun hy => by
    rcases hS _ hy with z | ⟨-, z⟩
    · exact s3 z
    · exact ne_cel A'.1 atc ne_ao z
  have amS : X.am ∉ S := fun hy => by
    rcases hS _ hy with z | ⟨z0, z⟩
    · exact ne_cel A'.2.1 ltc ne_oa z
    · by_cases hc : 0 < X.cm
      · exact s4 hc z0 z
      · have e := A'.2.1
        rw [z, atc] at e
        have e2 := (Prod.mk.inj (Prod.mk.inj (Sum.inr.inj (Option.some.inj e))).2).1
        omega
  refine ⟨(X.1, (X.lt, q, ncp σ.k X.ct), X.g, X.A, upN X.B σ.k (a, wa)), ⟨?_, ⟨f', A'.upd hU lmS amS, F'⟩, ⟨g', L, fun i hi => ?_⟩, ?_, fun i hi => ?_, fun i hi => ?_⟩, ⟨⟨s1, ?_⟩, s3, fun z0 z1 => ?_, fun i hi => ?_, s6⟩, ?_, fun y hy => ?_⟩
  · exact hU.2 _ _ hX' (notin _ _ hX' (fun v e => by cases e) (fun n v e => by cases e))
  · show g' (i : Int) = some (upN X.B σ.k (a, wa) i).1
    have hi' : i < σ.k + 1 := hi
    by_cases e : i = σ.k
    · subst e; rw [upN_at]; exact gn
    · rw [upN_ne e]; exact hg i (by omega)
  · exact hU.2 _ _ hgt' (notin _ _ hgt' (fun v e => by cases e) (fun n v e => by cases e))
  · have Mi := M' i hi
    obtain ⟨t1, t2, t3, t4⟩ := s5 i hi
    obtain ⟨⟨k, ek, -⟩, Gi⟩ := id Mi
    obtain ⟨-, fi, Ai, -⟩ := id Gi
    refine Mi.keep hU (notin _ _ ek (fun v e => by cases e) (fun n v e => by cases e)) (fun hy => ?_) (fun hy => ?_) hcls
    · rcases hS _ hy with z | ⟨z0, z⟩
      · exact t2 z
      · exact ne_cel Ai.1 atc ne_ao z
    · rcases hS _ hy with z | ⟨z0, z⟩
      · exact ne_cel Ai.2.1 ltc ne_oa z
      · exact t4 z0 z
  · show isTg h' (upN X.B σ.k (a, wa) i).1 (upN X.B σ.k (a, wa) i).2 (upN σ.tg σ.k g i)
    have hi' : i < σ.k + 1 := hi
    by_cases e : i = σ.k
    · subst e; rw [upN_at, upN_at]; exact Tn.keep hU hcls
    · rw [upN_ne e, upN_ne e]; exact (TG' i (by omega)).keep hU hcls
  · show ncp σ.k X.ct = capOf (σ.k + 1)
    rw [s2]; rfl
  · show X.am ≠ q
    rcases hq with ⟨y0, y1⟩ | y1
    · rw [y1]; exact s4 z0 y0
    · exact (ne_some y1 A'.2.1).symm
  · show (X.A i).2.2.1 ≠ X.lm ∧ (X.A i).2.2.1 ≠ X.lt ∧ (0 < X.cm → (X.A i).2.2.2 ≠ X.am) ∧ (0 < ncp σ.k X.ct → (X.A i).2.2.2 ≠ q)
    obtain ⟨t1, t2, t3, t4⟩ := s5 i hi
    refine ⟨t1, t2, t3, fun _ => ?_⟩
    rcases hq with ⟨y0, y1⟩ | y1
    · rw [y1]; exact t4 y0
    · obtain ⟨-, fi, Ai, -⟩ := (M' i hi).2
      exact (ne_some y1 Ai.2.1).symm
  · exact (E.updP _).trans (hU.updP (P := ownX X σ.n) (fun y hy => by
      rcases hS y hy with z | ⟨z0, z⟩
      · exact Or.inr (Or.inr (Or.inl z))
      · exact Or.inr (Or.inr (Or.inr (Or.inl ⟨z0, z⟩))))) (fun y hy => Or.inl hy)
  · rcases hy with z | ⟨z0, z⟩ | z | ⟨z0, z⟩ | z | ⟨i, hi, z⟩
    · exact Or.inl (Or.inl z)
    · exact Or.inl (Or.inr (Or.inl ⟨z0, z⟩))
    · exact Or.inl (Or.inr (Or.inr (Or.inl z)))
    · rcases hq with ⟨y0, y1⟩ | y1
      · exact Or.inl (Or.inr (Or.inr (Or.inr (Or.inl ⟨y0, by rw [z]; exact y1⟩))))
      · exact Or.inr (by rw [z]; exact E.old y1)
    · exact Or.inl (Or.inr (Or.inr (Or.inr (Or.inr (Or.inl z)))))
    · exact Or.inl (Or.inr (Or.inr (Or.inr (Or.inr (Or.inr ⟨i, hi, z⟩)))))
def tgK (σ : Sg) (c z o : Int) : Nat := if (1 ≤ c ∧ c ≤ 3) ∧ (1 ≤ z ∧ z ≤ 63) ∧ (1 ≤ o ∧ o ≤ 63) then (if σ.k < 4 then 0 else 2) else 1
theorem c_tagX {w : Wd} {h : Hp} {x : Nat} {X : XL} {σ : Sg} {c z o : Int} (H : isX w h x X σ) (hsep : sepX X σ.n σ.k) (hσ : SgOk σ) (hc : i32 c) (hz : i32 z) (ho : i32 o) : Ct w yX1_tag (ws_ yX1_tag cX1_tag 4 (some FieldType.int)) 10 242 7 48 [.ref x, jI c, jI z, jI o] h (fun v h' => tgK σ c z o = 0 ∧ v = some (jI (σ.k : Nat)) ∧ stepX w h h' x X σ (addT σ (c.toNat, z.toNat, o.toNat))) (fun E h' => exOf [sIAE, sISE] (tgK σ c z o) E ∧ Ext h h') := by
  obtain ⟨hX, ⟨f, A, F⟩, ⟨ft, At, Ft⟩, hg, M, TG⟩ := id H
  have hk := hσ.2.1
  have l1 := At.1
  unfold i32 at hc hz ho
  unfold tgK
  refine Ct.of (by decide) [some (.ref x), some (jI c), some (jI z), some (jI o)] rfl (Nat.le_of_ble_eq_true rfl) (fun K C E N0 => ?_)
  refine k_iload_n C dX1_tag_0 rfl ?_
  refine k_iconst C dX1_tag_1 ?_
  refine k_iconst C dX1_tag_2 ?_
  refine kx_S C rfl ms_X1_170 dX1_tag_3 ((c_mustBeIn (by omega))) rfl rfl (Nat.le_of_ble_eq_true rfl) ⟨(Nat.le_of_ble_eq_true rfl), (Nat.le_of_ble_eq_true rfl)⟩ (by omega) (fun v kk hp_ => ?_) (fun E1 h1 hx => x_pass C E N0 (by omega) ⟨by rw [if_neg (fun z => hx.1 z.1), hx.2.1]; exact ex1, hx.2.2⟩)
  obtain ⟨hin, rfl, rfl⟩ := hp_
  refine k_iload_n C dX1_tag_6 rfl ?_
  refine k_iconst C dX1_tag_7 ?_
  refine k_bipush C dX1_tag_8 (by decide) ?_
  refine kx_S C rfl ms_X1_170 dX1_tag_10 ((c_mustBeIn (by omega))) rfl rfl (Nat.le_of_ble_eq_true rfl) ⟨(Nat.le_of_ble_eq_true rfl), (Nat.le_of_ble_eq_true rfl)⟩ (by omega) (fun v kk hp_ => ?_) (fun E1 h1 hx => x_pass C E N0 (by omega) ⟨by rw [if_neg (fun z => hx.1 z.2.1), hx.2.1]; exact ex1, hx.2.2⟩)
  obtain ⟨hin2, rfl, rfl⟩ := hp_
  refine k_iload_n C dX1_tag_13 rfl ?_
  refine k_iconst C dX1_tag_14 ?_
  refine k_bipush C dX1_tag_15 (by decide) ?_
  refine kx_S C rfl ms_X1_170 dX1_tag_17 ((c_mustBeIn (by omega))) rfl rfl (Nat.le_of_ble_eq_true rfl) ⟨(Nat.le_of_ble_eq_true rfl), (Nat.le_of_ble_eq_true rfl)⟩ (by omega) (fun v kk hp_ => ?_) (fun E1 h1 hx => x_pass C E N0 (by omega) ⟨by rw [if_neg (fun z => hx.1 z.2.2), hx.2.1]; exact ex1, hx.2.2⟩)
  obtain ⟨hin3, rfl, rfl⟩ := hp_
  rw [if_pos ⟨hin, hin2, hin3⟩] at E
  refine k_aload_n C dX1_tag_20 rfl ?_
  refine k_get C fg_X1_134 dX1_tag_21 (by assumption) (by rfl) ?_
  refine kx_F C rfl mf_X1_56 dX1_tag_24 ((c_size l1)) (by assumption) rfl rfl (Nat.le_of_ble_eq_true rfl) ⟨(Nat.le_of_ble_eq_true rfl), (Nat.le_of_ble_eq_true rfl)⟩ (by omega) (fun v kk hp_ => ?_) (fun _ _ hx => hx.elim)
  obtain ⟨rfl, rfl⟩ := hp_
  refine k_iconst C dX1_tag_29 ?_
  refine k_icmp_ge C dX1_tag_30 (tgt := 37) (by decide) (by omega) (fun g1 => ?_) (fun g2 => ?_)
  · refine k_iconst C dX1_tag_37 ?_
    refine kx_S C rfl ms_X1_176 dX1_tag_38 ((c_checkState (b := false))) rfl rfl (Nat.le_of_ble_eq_true rfl) ⟨(Nat.le_of_ble_eq_true rfl), (Nat.le_of_ble_eq_true rfl)⟩ (by omega) (fun v k1 hp_ => ?_) (fun E1 h1 hx => x_pass C E N0 (by omega) ⟨by rw [if_neg (by omega), hx.2.1]; exact ex2, hx.2.2⟩)
    obtain ⟨e, _, _⟩ := hp_
    cases e
  · rw [if_pos (by omega)] at E
    refine k_iconst C dX1_tag_33 ?_
    refine k_goto C dX1_tag_34 (tgt := 38) (by decide) ?_
    refine kx_S C rfl ms_X1_176 dX1_tag_38 ((c_checkState (b := true))) rfl rfl (Nat.le_of_ble_eq_true rfl) ⟨(Nat.le_of_ble_eq_true rfl), (Nat.le_of_ble_eq_true rfl)⟩ (by omega) (fun v k1 hp_ => ?_) (fun E1 h1 hx => absurd hx.1 (by decide))
    obtain ⟨_, rfl, rfl⟩ := hp_
    obtain ⟨c', hc'⟩ : ∃ S : Nat, c = (S : Int) := ⟨c.toNat, by omega⟩
    obtain ⟨z', hz'⟩ : ∃ S : Nat, z = (S : Int) := ⟨z.toNat, by omega⟩
    obtain ⟨o', ho'⟩ : ∃ S : Nat, o = (S : Int) := ⟨o.toNat, by omega⟩
    subst hc' hz' ho'
    rw [show ((c' : Nat) : Int).toNat = c' from rfl, show ((z' : Nat) : Int).toNat = z' from rfl, show ((o' : Nat) : Int).toNat = o' from rfl] at *
    refine k_aload_n C dX1_tag_41 rfl ?_
    refine k_get C fg_X1_134 dX1_tag_42 (by assumption) (by rfl) ?_
    refine k_new C nw_X1_240 dX1_tag_45 (by omega) (fun a h2 N2 => ?_)
    have a2 := N2.2.1
    refine k_dup C dX1_tag_48 rfl ?_
    refine k_iload_n C dX1_tag_49 rfl ?_
    refine k_iload_n C dX1_tag_50 rfl ?_
    refine k_iload_n C dX1_tag_51 rfl ?_
    refine kx_I C rfl mi_X1_242 dX1_tag_52 ((c_tgInit (g := (c', z', o')) a2)) rfl rfl (Nat.le_of_ble_eq_true rfl) ⟨(Nat.le_of_ble_eq_true rfl), (Nat.le_of_ble_eq_true rfl)⟩ (by omega) (fun v h3 hp_ => ?_) (fun _ _ hx => hx.elim)
    obtain ⟨rfl, wa, T3, U3⟩ := hp_
    have E3 := U3.ext0 N2.2.2.1 (by simpa using N2.1)
    have A3 := At.ext E3
    have l3 := A3.1
    have a3 := T3.1
    have el : isEl h3 σ.k ft := fun j j0 j1 => by
      have hj := Ft j.toNat (by omega)
      rw [show ((j.toNat : Nat) : Int) = j by omega] at hj
      have ej := (TG j.toNat (by omega)).1
      exact ⟨_, _, hj, E3.2 _ _ ej, rfl⟩
    have hct := hsep.1.2
    have hlt : X.ct ≤ 15 := by
      rw [hct]
      have : ∀ n, n < 12 → capOf n ≤ 15 := by decide
      exact this σ.k (by omega)
    have hcost : gcC σ.k X.ct ≤ 1 ∧ gcS σ.k X.ct ≤ 15 := by
      rw [hct]
      have : ∀ n, n < 12 → gcC n (capOf n) ≤ 1 ∧ gcS n (capOf n) ≤ 15 := by decide
      exact this σ.k (by omega)
    have al : a ≠ X.lt := ne_some N2.1 At.1
    have aa : a ≠ X.at := ne_some N2.1 At.2.1
    refine kx_F C rfl mf_X1_50 dX1_tag_55 ((c_add A3 (by omega) el a3 rfl al aa)) (by assumption) rfl rfl (Nat.le_of_ble_eq_true rfl) ⟨(Nat.le_of_ble_eq_true rfl), (Nat.le_of_ble_eq_true rfl)⟩ (by omega) (fun v h6 hp_ => ?_) (fun _ _ hx => hx.elim)
    obtain ⟨rfl, q, g', r1, r2, r3, r4⟩ := hp_
    have l6 := r1.1
    have x6 : h6.2 x = some (.inl (0, [.ref X.lm, .ref X.lt, .ref X.g])) := by
      have x5 := E3.2 _ _ hX
      rcases r4 with ⟨-, -, u⟩ | ⟨-, -, u⟩
      · exact u.2 _ _ x5 (by simp [ne_cel x5 A3.1 (ne_cls (by decide)), ne_cel x5 A3.2.1 ne_ao])
      · exact u.2 _ _ x5 (by simp [ne_cel x5 A3.1 (ne_cls (by decide))])
    refine k_pop C dX1_tag_60 rfl ?_
    refine k_aload_n C dX1_tag_61 rfl ?_
    refine k_get C fg_X1_134 dX1_tag_62 (by assumption) (by rfl) ?_
    refine kx_F C rfl mf_X1_56 dX1_tag_65 ((c_size l6)) (by assumption) rfl rfl (Nat.le_of_ble_eq_true rfl) ⟨(Nat.le_of_ble_eq_true rfl), (Nat.le_of_ble_eq_true rfl)⟩ (by omega) (fun v k7 hp_ => ?_) (fun _ _ hx => hx.elim)
    obtain ⟨rfl, rfl⟩ := hp_
    refine k_iconst C dX1_tag_70 ?_
    refine k_isub C dX1_tag_71 ?_
    rw [show ((σ.k + 1 : Nat) : Int) - 1 = (σ.k : Nat) by omega]
    have st := tag_step H hsep E3 T3 r1 (fun i hi => by rw [r2 i (by omega) (by omega)]; exact Ft i hi) r3 r4
    exact k_iret C E dX1_tag_72 (by omega) ⟨rfl, rfl, st⟩
