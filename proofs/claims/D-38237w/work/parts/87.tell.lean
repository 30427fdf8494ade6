/-! ===== tell, amend ===== -/
set_option maxRecDepth 100000
theorem put_is {w : Wd} {h hM h' : Hp} {x i tk rf bk : Nat} {X : XL} {σ : Sg} {m : Mch} {S : List Nat} (H : isX w h x X σ) (hsep : sepX X σ.n σ.k) (hi : i < σ.n) (E : Ext h hM) (U : Upd hM h' S) (hS : ∀ y ∈ S, y = (X.A i).1 ∨ y = (X.A i).2.2.2 ∨ y = X.g)
    (Mn : isMc w h' (X.A i).1 (X.A i).2.1 (X.A i).2.2.1 (X.A i).2.2.2 m) (hg : h'.2 X.g = some (.inl (1, [jI (tk : Nat), jI (rf : Nat), jI (bk : Nat)]))) : isX w h' x X (putG σ i m tk rf bk) ∧ UpdP h h' (ownX X σ.n) := by
  obtain ⟨s12, s3, s4, s5, s6⟩ := id hsep
  obtain ⟨hX, ⟨f, A, F⟩, ⟨ft, At, Ft⟩, hgt, M, TG⟩ := id H
  have HM := H.ext E
  obtain ⟨hX', ⟨f', A', F'⟩, ⟨ft', At', Ft'⟩, hgt', M', TG'⟩ := id HM
  obtain ⟨⟨k0, ei, -⟩, -, fi, Ai, -⟩ := id (M' i hi)
  have hcls : ∀ y ∈ S, hM.2 y = none ∨ ∃ c : Cel, hM.2 y = some c ∧ ((∃ x, c = .inl (14, x)) ∨ (∃ n x, c = .inr (4, n, x)) ∨ (∃ x, c = .inl (3, x)) ∨ (∃ x, c = .inl (1, x))) := fun y hy => by
    rcases hS y hy with z | z | z
    · exact Or.inr ⟨_, by rw [z]; exact ei, Or.inr (Or.inr (Or.inl ⟨_, rfl⟩))⟩
    · exact Or.inr ⟨_, by rw [z]; exact Ai.2.1, Or.inr (Or.inl ⟨_, _, rfl⟩)⟩
    · exact Or.inr ⟨_, by rw [z]; exact hgt', Or.inr (Or.inr (Or.inr ⟨_, rfl⟩))⟩
  have notin : ∀ (y : Nat) (d : Cel), hM.2 y = some d → (∀ v : List Value, d ≠ .inl (3, v)) → (∀ (n : Nat) (v : Nat → Value), d ≠ .inr (4, n, v)) → (∀ v : List Value, d ≠ .inl (1, v)) → y ∉ S := fun y d e k1 k2 k3 hy => by
    rcases hS y hy with z | z | z
    · rw [z, ei] at e; exact k1 _ (Option.some.inj e).symm
    · rw [z, Ai.2.1] at e; exact k2 _ _ (Option.some.inj e).symm
    · rw [z, hgt'] at e; exact k3 _ (Option.some.inj e).symm
  have arr : ∀ (y N : Nat) (fy : Int → Option Nat), hM.2 y = some (aR 4 N fy) → (0 < N → (X.A i).2.2.2 ≠ y) → y ∉ S := fun y N fy e hne hy => by
    rcases hS y hy with z | z | z
    · exact ne_cel e ei ne_oa z
    · by_cases hN : 0 < N
      · exact hne hN z.symm
      · rw [z, Ai.2.1] at e
        have e2 := (Prod.mk.inj (Prod.mk.inj (Sum.inr.inj (Option.some.inj e))).2).1
        omega
    · exact ne_cel e hgt' ne_oa z
  have lmS := notin _ _ A'.1 (fun v e => by cases e) (fun n v e => by cases e) (fun v e => by cases e)
  have ltS := notin _ _ At'.1 (fun v e => by cases e) (fun n v e => by cases e) (fun v e => by cases e)
  have amS := arr _ _ _ A'.2.1 (s5 i hi).2.2.1
  have atS := arr _ _ _ At'.2.1 (s5 i hi).2.2.2
  refine ⟨⟨U.2 _ _ hX' (notin _ _ hX' (fun v e => by cases e) (fun n v e => by cases e) (fun v e => by cases e)), ⟨f', A'.upd U lmS amS, F'⟩, ⟨ft', At'.upd U ltS atS, Ft'⟩, hg, fun j hj => ?_, fun j hj => (TG' j hj).keep U hcls⟩, ?_⟩
  · show isMc w h' (X.A j).1 (X.A j).2.1 (X.A j).2.2.1 (X.A j).2.2.2 (upN σ.ms i m j)
    by_cases e : j = i
    · subst e; rw [upN_at]; exact Mn
    · rw [upN_ne e]
      have Mj := M' j hj
      obtain ⟨⟨kj, ej, -⟩, -, fj, Aj, -⟩ := id Mj
      obtain ⟨d1, d2⟩ := s6 j i hj hi e
      refine Mj.keep U (fun hy => ?_) (notin _ _ Aj.1 (fun v e => by cases e) (fun n v e => by cases e) (fun v e => by cases e)) (arr _ _ _ Aj.2.1 (fun _ z => d2 z.symm)) hcls
      rcases hS _ hy with z | z | z
      · exact d1 z
      · exact ne_cel ej Ai.2.1 ne_ao z
      · exact ne_cel ej hgt' (ne_cls (by decide)) z
  · exact (E.updP _).trans (U.updP (P := ownX X σ.n) (fun y hy => by
      rcases hS y hy with z | z | z
      · exact Or.inr (Or.inr (Or.inr (Or.inr (Or.inr ⟨i, hi, Or.inl z⟩))))
      · exact Or.inr (Or.inr (Or.inr (Or.inr (Or.inr ⟨i, hi, Or.inr (Or.inr z)⟩))))
      · exact Or.inr (Or.inr (Or.inr (Or.inr (Or.inl z)))))) (fun y hy => Or.inl hy)
theorem SgOk.put {σ : Sg} {i : Nat} {m : Mch} {tk rf bk : Nat} (hσ : SgOk σ) (hm : MchOk m) (h1 : tk ≤ 100000) (h2 : rf ≤ 100000) (h3 : bk ≤ 100000) : SgOk (putG σ i m tk rf bk) := by
  refine ⟨hσ.1, hσ.2.1, fun j hj => ?_, hσ.2.2.2.1, h1, h2, h3⟩
  show MchOk (upN σ.ms i m j)
  by_cases e : j = i
  · rw [e, upN_at]; exact hm
  · rw [upN_ne e]; exact hσ.2.2.1 j hj
theorem c_ruleOf {w : Wd} {h : Hp} {t lst ar : Nat} {T : Tb} {y v x : Int} (G : isTb w h t lst ar T) (hT : TbOk T) (hy : i32 y) (hv : i32 v) (hx : i32 x) : Ct w yX1_ruleOf (ws_ yX1_ruleOf cX1_ruleOf 4 (some (FieldType.object "Haltingale$Rule"))) 10 242 4 21 [.ref t, jI y, jI v, jI x] h (fun r h' => ((0 ≤ y ∧ y ≤ 1) ∧ (v = 1 ∨ v = -1) ∧ (0 ≤ x ∧ x ≤ (T.1 : Nat))) ∧ ∃ a, r = some (.ref a) ∧ h.2 a = none ∧ isRu h' a (y, v, x) ∧ Ext h h') (fun E h' => ¬ ((0 ≤ y ∧ y ≤ 1) ∧ (v = 1 ∨ v = -1) ∧ (0 ≤ x ∧ x ≤ (T.1 : Nat))) ∧ E = sIAE ∧ Ext h h') := by
  have G1 := G.1
  have hT2 := hT.2.1
  unfold i32 at hy hv hx
  refine Ct.of (by decide) [some (.ref t), some (jI y), some (jI v), some (jI x)] rfl (Nat.le_of_ble_eq_true rfl) (fun K C E N0 => ?_)
  refine k_iload_n C dX1_ruleOf_0 rfl ?_
  refine k_iconst C dX1_ruleOf_1 ?_
  refine k_iconst C dX1_ruleOf_2 ?_
  refine kx_S C rfl ms_X1_170 dX1_ruleOf_3 ((c_mustBeIn (by omega))) rfl rfl (Nat.le_of_ble_eq_true rfl) ⟨(Nat.le_of_ble_eq_true rfl), (Nat.le_of_ble_eq_true rfl)⟩ (by omega) (fun r kk hp_ => ?_) (fun E1 h1 hx => x_pass C E N0 (by omega) ⟨fun z => hx.1 z.1, hx.2.1, hx.2.2⟩)
  obtain ⟨p1, rfl, rfl⟩ := hp_
  have tail : (v = 1 ∨ v = -1) → Wk w K kk 1 6 16 [some (.ref t), some (jI y), some (jI v), some (jI x)] [] := by
    intro p2
    refine k_iconst C dX1_ruleOf_16 ?_
    refine k_goto C dX1_ruleOf_17 (tgt := 21) (by decide) ?_
    refine kx_S C rfl ms_X1_147 dX1_ruleOf_21 ((c_must (b := true))) rfl rfl (Nat.le_of_ble_eq_true rfl) ⟨(Nat.le_of_ble_eq_true rfl), (Nat.le_of_ble_eq_true rfl)⟩ (by omega) (fun r k1 hp_ => ?_) (fun E1 h1 hx => absurd hx.1 (by decide))
    obtain ⟨_, rfl, rfl⟩ := hp_
    refine k_iload_n C dX1_ruleOf_24 rfl ?_
    refine k_iconst C dX1_ruleOf_25 ?_
    refine k_aload_n C dX1_ruleOf_26 rfl ?_
    refine k_getN C fn_X1_73 dX1_ruleOf_27 (by assumption) (by rfl) ?_
    refine kx_S C rfl ms_X1_170 dX1_ruleOf_30 ((c_mustBeIn (by omega))) rfl rfl (Nat.le_of_ble_eq_true rfl) ⟨(Nat.le_of_ble_eq_true rfl), (Nat.le_of_ble_eq_true rfl)⟩ (by omega) (fun r k1 hp_ => ?_) (fun E1 h1 hx => x_pass C E N0 (by omega) ⟨fun z => hx.1 z.2.2, hx.2.1, hx.2.2⟩)
    obtain ⟨p3, rfl, rfl⟩ := hp_
    refine k_new C nw_X1_107 dX1_ruleOf_33 (by omega) (fun a h2 N2 => ?_)
    have a2 := N2.2.1
    refine k_dup C dX1_ruleOf_36 rfl ?_
    refine k_iload_n C dX1_ruleOf_37 rfl ?_
    refine k_iload_n C dX1_ruleOf_38 rfl ?_
    refine k_iload_n C dX1_ruleOf_39 rfl ?_
    refine kx_I C rfl mi_X1_174 dX1_ruleOf_40 ((c_ruInit a2)) rfl rfl (Nat.le_of_ble_eq_true rfl) ⟨(Nat.le_of_ble_eq_true rfl), (Nat.le_of_ble_eq_true rfl)⟩ (by omega) (fun r h3 hp_ => ?_) (fun _ _ hx => hx.elim)
    obtain ⟨rfl, P3⟩ := hp_
    exact k_aret C (Or.inl ⟨_, rfl⟩) E dX1_ruleOf_43 (by omega) ⟨⟨p1, p2, p3⟩, a, rfl, N2.1, P3.2.1, P3.upd.ext0 N2.2.2.1 (by simpa using N2.1)⟩
  refine k_iload_n C dX1_ruleOf_6 rfl ?_
  refine k_iconst C dX1_ruleOf_7 ?_
  refine k_icmp_eq C dX1_ruleOf_8 (tgt := 16) (by decide) (by omega) (fun g1 => ?_) (fun g2 => ?_)
  · exact tail (Or.inl g1)
  · refine k_iload_n C dX1_ruleOf_11 rfl ?_
    refine k_iconst C dX1_ruleOf_12 ?_
    refine k_icmp_ne C dX1_ruleOf_13 (tgt := 20) (by decide) (by omega) (fun g3 => ?_) (fun g4 => ?_)
    · refine k_iconst C dX1_ruleOf_20 ?_
      refine kx_S C rfl ms_X1_147 dX1_ruleOf_21 ((c_must (b := false))) rfl rfl (Nat.le_of_ble_eq_true rfl) ⟨(Nat.le_of_ble_eq_true rfl), (Nat.le_of_ble_eq_true rfl)⟩ (by omega) (fun r k1 hp_ => ?_) (fun E1 h1 hx => x_pass C E N0 (by omega) ⟨fun z => by omega, hx.2.1, hx.2.2⟩)
      obtain ⟨e, _, _⟩ := hp_
      cases e
    · exact tail (Or.inr g4)
theorem refK_1 {σ : Sg} {i t b y v x : Int} {fl : Bool} (h : ¬ ((0 ≤ i ∧ i < σ.n) ∧ (0 ≤ t ∧ t < (σ.ms i.toNat).1.1) ∧ (0 ≤ b ∧ b < 2))) : refK σ i t b y v x fl = 1 := by
  unfold refK
  rw [show cellOk σ i t b = false from decide_eq_false h]
  rfl
theorem refK_2 {σ : Sg} {i t b y v x : Int} {fl : Bool} (h : (0 ≤ i ∧ i < σ.n) ∧ (0 ≤ t ∧ t < (σ.ms i.toNat).1.1) ∧ (0 ≤ b ∧ b < 2)) (h2 : ¬ ((0 ≤ y ∧ y ≤ 1) ∧ (v = 1 ∨ v = -1) ∧ (0 ≤ x ∧ x ≤ ((σ.ms i.toNat).1.1 : Nat)))) : refK σ i t b y v x fl = 2 := by
  unfold refK
  rw [show cellOk σ i t b = true from decide_eq_true h, if_pos rfl, if_neg h2]
theorem refK_3 {σ : Sg} {i t b y v x : Int} {fl : Bool} (h : (0 ≤ i ∧ i < σ.n) ∧ (0 ≤ t ∧ t < (σ.ms i.toNat).1.1) ∧ (0 ≤ b ∧ b < 2)) (h2 : (0 ≤ y ∧ y ≤ 1) ∧ (v = 1 ∨ v = -1) ∧ (0 ≤ x ∧ x ≤ ((σ.ms i.toNat).1.1 : Nat))) (h3 : ((σ.ms i.toNat).1.2 (2 * t + b)).isNone = !fl) : refK σ i t b y v x fl = 3 := by
  unfold refK
  rw [show cellOk σ i t b = true from decide_eq_true h, if_pos rfl, if_pos h2, h3, if_neg (by cases fl <;> decide)]
theorem refK_0 {σ : Sg} {i t b y v x : Int} {fl : Bool} (h : (0 ≤ i ∧ i < σ.n) ∧ (0 ≤ t ∧ t < (σ.ms i.toNat).1.1) ∧ (0 ≤ b ∧ b < 2)) (h2 : (0 ≤ y ∧ y ≤ 1) ∧ (v = 1 ∨ v = -1) ∧ (0 ≤ x ∧ x ≤ ((σ.ms i.toNat).1.1 : Nat))) (h3 : ((σ.ms i.toNat).1.2 (2 * t + b)).isNone = fl) : refK σ i t b y v x fl = 0 := by
  unfold refK
  rw [show cellOk σ i t b = true from decide_eq_true h, if_pos rfl, if_pos h2, if_pos h3]
/-- a cell put, the machine opened, the gate's count: one step of the whole -/
theorem amd_step {w : Wd} {h hM h1 h2 : Hp} {x i : Nat} {X : XL} {σ : Sg} {k : Int} {r : Ru} {tk rf bk : Nat} (H : isX w h x X σ) (hsep : sepX X σ.n σ.k) (hi : i < σ.n) (E : Ext h hM) (G1 : isTb w h1 (X.A i).2.1 (X.A i).2.2.1 (X.A i).2.2.2 (tset (σ.ms i).1 k r)) (U1 : Upd hM h1 [(X.A i).2.2.2]) (M2 : isMc w h2 (X.A i).1 (X.A i).2.1 (X.A i).2.2.1 (X.A i).2.2.2 (tset (σ.ms i).1 k r, none, -1, -1)) (hg : h2.2 X.g = some (.inl (1, [jI (tk : Nat), jI (rf : Nat), jI (bk : Nat)]))) (U2 : Upd h1 h2 [(X.A i).1, X.g]) : stepX w h h2 x X σ (putG σ i (amdM (σ.ms i) k r) tk rf bk) :=
  put_step (m := amdM (σ.ms i) k r) H hsep hi E ((U1.sub (T := [(X.A i).1, (X.A i).2.2.2, X.g]) (by simp)).trans U2 (fun q hq => Or.inl (by simp at hq; rcases hq with z | z <;> simp [z]))) (fun y hy => by simpa using hy) M2 hg
theorem c_tellX {w : Wd} {h : Hp} {x0 : Nat} {X : XL} {σ : Sg} {i t b y v x : Int} (H : isX w h x0 X σ) (hsep : sepX X σ.n σ.k) (hσ : SgOk σ) (hi : i32 i) (ht : i32 t) (hb : i32 b) (hy : i32 y) (hv : i32 v) (hx : i32 x) : Ct w yX1_tell (ws_ yX1_tell cX1_tell 9 (some FieldType.int)) 11 266 9 46 [.ref x0, jI i, jI t, jI b, jI y, jI v, jI x] h (fun r h' => refK σ i t b y v x true = 0 ∧ r = some (jI (cntE (amdM (σ.ms i.toNat) (2 * t + b) (y, v, x)).1 (2 * (σ.ms i.toNat).1.1))) ∧ stepX w h h' x0 X σ (putG σ i.toNat (amdM (σ.ms i.toNat) (2 * t + b) (y, v, x)) σ.tk σ.rf (σ.bk + (if (σ.ms i.toNat).2.1.isSome then 1 else 0)))) (fun E h' => exOf [sIOB, sIAE, sISE] (refK σ i t b y v x true) E ∧ Ext h h') := by
  have hX := H.1
  refine Ct.of (by decide) [some (.ref x0), some (jI i), some (jI t), some (jI b), some (jI y), some (jI v), some (jI x), none, none] rfl (Nat.le_of_ble_eq_true rfl) (fun K C E N0 => ?_)
  refine k_aload_n C dX1_tell_0 rfl ?_
  refine k_iload_n C dX1_tell_1 rfl ?_
  refine k_iload_n C dX1_tell_2 rfl ?_
  refine k_iload_n C dX1_tell_3 rfl ?_
  refine kx_V C rfl mv_X1_197 dX1_tell_4 ((c_cellAt H hσ hi ht hb)) (by assumption) rfl rfl (Nat.le_of_ble_eq_true rfl) ⟨(Nat.le_of_ble_eq_true rfl), (Nat.le_of_ble_eq_true rfl)⟩ (by omega) (fun r kk hp_ => ?_) (fun E1 h1 hx => x_pass C E N0 (by omega) ⟨by rw [refK_1 hx.1, hx.2.1]; exact ex1, hx.2.2⟩)
  obtain ⟨hin, rfl, rfl⟩ := hp_
  have hi' : i.toNat < σ.n := by omega
  have mok := hσ.2.2.1 i.toNat hi'
  have hT2 := mok.1.2.1
  have M := H.2.2.2.2.1 i.toNat hi'
  have G := M.2
  refine k_astore C dX1_tell_7 (Nat.le_of_ble_eq_true rfl) rfl ?_
  refine k_aload C dX1_tell_9 rfl ?_
  refine k_iload C dX1_tell_11 rfl ?_
  refine k_iload C dX1_tell_13 rfl ?_
  refine k_iload C dX1_tell_15 rfl ?_
  refine kx_S C rfl ms_X1_201 dX1_tell_17 ((c_ruleOf G mok.1 hy hv hx)) rfl rfl (Nat.le_of_ble_eq_true rfl) ⟨(Nat.le_of_ble_eq_true rfl), (Nat.le_of_ble_eq_true rfl)⟩ (by omega) (fun r h2 hp_ => ?_) (fun E1 h1 hx => x_pass C E N0 (by omega) ⟨by rw [refK_2 hin hx.1, hx.2.1]; exact ex2, hx.2.2⟩)
  obtain ⟨hr, a, rfl, a0, R2, E2⟩ := hp_
  have G2 := G.ext E2
  have G21 := G2.1
  have hX2 := E2.2 _ _ hX
  refine k_astore C dX1_tell_20 (Nat.le_of_ble_eq_true rfl) rfl ?_
  refine k_aload C dX1_tell_22 rfl ?_
  refine k_iload_n C dX1_tell_24 rfl ?_
  refine k_iload_n C dX1_tell_25 rfl ?_
  refine kx_V C rfl mv_X1_95 dX1_tell_26 ((c_cell G2 hT2 hin.2.1 (by omega))) (by assumption) rfl rfl (Nat.le_of_ble_eq_true rfl) ⟨(Nat.le_of_ble_eq_true rfl), (Nat.le_of_ble_eq_true rfl)⟩ (by omega) (fun r k2 hp_ => ?_) (fun _ _ hx => hx.elim)
  obtain ⟨o, rfl, o2, rfl⟩ := hp_
  obtain ⟨vo, o3⟩ := o2.cell
  refine kx_V C rfl mv_X1_99 dX1_tell_29 ((c_orPresent o2)) (by assumption) rfl rfl (Nat.le_of_ble_eq_true rfl) ⟨(Nat.le_of_ble_eq_true rfl), (Nat.le_of_ble_eq_true rfl)⟩ (by omega) (fun r k2 hp_ => ?_) (fun _ _ hx => hx.elim)
  obtain ⟨rfl, rfl⟩ := hp_
  cases hc : (σ.ms i.toNat).1.2 (2 * t + b) with
  | some ru =>
    refine k_ifne_b C dX1_tell_32 (tgt := 39) (by decide) (fun _ => ?_) (fun z => by cases z)
    refine k_iconst C dX1_tell_39 ?_
    refine kx_S C rfl ms_X1_176 dX1_tell_40 ((c_checkState (b := false))) rfl rfl (Nat.le_of_ble_eq_true rfl) ⟨(Nat.le_of_ble_eq_true rfl), (Nat.le_of_ble_eq_true rfl)⟩ (by omega) (fun r k1 hp_ => ?_) (fun E1 h1 hx => x_pass C E N0 (by omega) ⟨by rw [refK_3 hin hr (by rw [hc]; rfl), hx.2.1]; exact ex3, E2.trans hx.2.2⟩)
    obtain ⟨e, _, _⟩ := hp_
    cases e
  | none =>
    refine k_ifne_b C dX1_tell_32 (tgt := 39) (by decide) (fun z => by cases z) (fun _ => ?_)
    refine k_iconst C dX1_tell_35 ?_
    refine k_goto C dX1_tell_36 (tgt := 40) (by decide) ?_
    refine kx_S C rfl ms_X1_176 dX1_tell_40 ((c_checkState (b := true))) rfl rfl (Nat.le_of_ble_eq_true rfl) ⟨(Nat.le_of_ble_eq_true rfl), (Nat.le_of_ble_eq_true rfl)⟩ (by omega) (fun r k3 hp_ => ?_) (fun E1 h1 hx => absurd hx.1 (by decide))
    obtain ⟨_, rfl, rfl⟩ := hp_
    have rk := refK_0 (y := y) (v := v) (x := x) (fl := true) hin hr (by rw [hc]; rfl)
    refine k_aload C dX1_tell_43 rfl ?_
    refine k_iload_n C dX1_tell_45 rfl ?_
    refine k_iload_n C dX1_tell_46 rfl ?_
    refine k_aload C dX1_tell_47 rfl ?_
    refine kx_V C rfl mv_X1_205 dX1_tell_49 ((c_tbSet G2 hT2 hin.2.1 (by omega) R2)) (by assumption) rfl rfl (Nat.le_of_ble_eq_true rfl) ⟨(Nat.le_of_ble_eq_true rfl), (Nat.le_of_ble_eq_true rfl)⟩ (by omega) (fun r h4 hp_ => ?_) (fun _ _ hx => hx.elim)
    obtain ⟨rfl, G4, U4⟩ := hp_
    obtain ⟨-, f2, A2, -⟩ := id G2
    have M2 := M.ext E2
    obtain ⟨⟨k0, e1, e2⟩, -⟩ := id M2
    have hg2 := E2.2 _ _ H.2.2.2.1
    have M4 : isMc w h4 (X.A i.toNat).1 (X.A i.toNat).2.1 (X.A i.toNat).2.2.1 (X.A i.toNat).2.2.2 (tset (σ.ms i.toNat).1 (2 * t + b) (y, v, x), (σ.ms i.toNat).2) := ⟨⟨k0, U4.2 _ _ e1 (by simpa using ne_cel e1 A2.2.1 ne_ao), U4.2 _ _ e2 (by simpa using ne_cel e2 A2.2.1 ne_ao)⟩, G4⟩
    obtain ⟨H4, -⟩ := put_is (tk := σ.tk) (rf := σ.rf) (bk := σ.bk) H hsep hi' E2 U4 (fun y hy => Or.inr (Or.inl (by simpa using hy))) M4 (U4.2 _ _ hg2 (by simpa using ne_cel hg2 A2.2.1 ne_ao))
    have ok4 : SgOk (putG σ i.toNat (tset (σ.ms i.toNat).1 (2 * t + b) (y, v, x), (σ.ms i.toNat).2) σ.tk σ.rf σ.bk) := hσ.put ⟨tset_ok mok.1 ⟨by dsimp only; omega, hr.2.1, hr.2.2⟩, mok.2⟩ hσ.2.2.2.2.1 hσ.2.2.2.2.2.1 hσ.2.2.2.2.2.2
    have x4 := H4.1
    obtain ⟨f4, A4, F4⟩ := H4.2.1
    have l4 := A4.1
    have fi := F4 i.toNat hi'
    rw [show ((i.toNat : Nat) : Int) = i by omega] at fi
    have M41 := M4.1
    obtain ⟨k5, ea4, -⟩ := M41
    refine k_aload_n C dX1_tell_52 rfl ?_
    refine k_aload_n C dX1_tell_53 rfl ?_
    refine k_get C fg_X1_130 dX1_tell_54 (by assumption) (by rfl) ?_
    refine k_iload_n C dX1_tell_57 rfl ?_
    refine kx_F C rfl mf_X1_60 dX1_tell_58 ((c_get A4 (by show 0 ≤ i ∧ i < (σ.n : Int); omega) fi)) (by assumption) rfl rfl (Nat.le_of_ble_eq_true rfl) ⟨(Nat.le_of_ble_eq_true rfl), (Nat.le_of_ble_eq_true rfl)⟩ (by omega) (fun r k6 hp_ => ?_) (fun _ _ hx => hx.elim)
    obtain ⟨rfl, rfl⟩ := hp_
    refine k_castO C ck_X1_160_3 dX1_tell_63 (by assumption) ?_
    have tb := c_takeBack (i := i.toNat) H4 ok4 hi'
    rw [show (putG σ i.toNat (tset (σ.ms i.toNat).1 (2 * t + b) (y, v, x), (σ.ms i.toNat).2) σ.tk σ.rf σ.bk).ms i.toNat = (tset (σ.ms i.toNat).1 (2 * t + b) (y, v, x), (σ.ms i.toNat).2) from upN_at] at tb
    refine kx_VW C rfl mv_X1_209 dX1_tell_66 (tb) (by assumption) rfl rfl (Nat.le_of_ble_eq_true rfl) ⟨(Nat.le_of_ble_eq_true rfl), (Nat.le_of_ble_eq_true rfl)⟩ (by omega) (fun r h5 hp_ => ?_) (fun _ _ hx => hx.elim)
    obtain ⟨rfl, M5, g5, U5⟩ := hp_
    have st := amd_step H hsep hi' E2 G4 U4 M5 g5 U5
    have G5 := M5.2
    have G51 := G5.1
    refine k_pop C dX1_tell_69 rfl ?_
    refine k_aload C dX1_tell_70 rfl ?_
    refine kx_V C rfl mv_X1_213 dX1_tell_72 ((c_empty G5 hT2)) (by assumption) rfl rfl (Nat.le_of_ble_eq_true rfl) ⟨(Nat.le_of_ble_eq_true rfl), (Nat.le_of_ble_eq_true rfl)⟩ (by omega) (fun r k7 hp_ => ?_) (fun _ _ hx => hx.elim)
    obtain ⟨rfl, rfl⟩ := hp_
    exact k_iret C E dX1_tell_75 (by omega) ⟨rk, rfl, st⟩
theorem c_amendX {w : Wd} {h : Hp} {x0 : Nat} {X : XL} {σ : Sg} {i t b y v x : Int} (H : isX w h x0 X σ) (hsep : sepX X σ.n σ.k) (hσ : SgOk σ) (hi : i32 i) (ht : i32 t) (hb : i32 b) (hy : i32 y) (hv : i32 v) (hx : i32 x) : Ct w yX1_amend (ws_ yX1_amend cX1_amend 9 (some FieldType.boolean)) 11 266 9 46 [.ref x0, jI i, jI t, jI b, jI y, jI v, jI x] h (fun r h' => refK σ i t b y v x false = 0 ∧ r = some (jI (b2i (σ.ms i.toNat).2.1.isSome)) ∧ stepX w h h' x0 X σ (putG σ i.toNat (amdM (σ.ms i.toNat) (2 * t + b) (y, v, x)) σ.tk σ.rf (σ.bk + (if (σ.ms i.toNat).2.1.isSome then 1 else 0)))) (fun E h' => exOf [sIOB, sIAE, sISE] (refK σ i t b y v x false) E ∧ Ext h h') := by
  have hX := H.1
  refine Ct.of (by decide) [some (.ref x0), some (jI i), some (jI t), some (jI b), some (jI y), some (jI v), some (jI x), none, none] rfl (Nat.le_of_ble_eq_true rfl) (fun K C E N0 => ?_)
  refine k_aload_n C dX1_amend_0 rfl ?_
  refine k_iload_n C dX1_amend_1 rfl ?_
  refine k_iload_n C dX1_amend_2 rfl ?_
  refine k_iload_n C dX1_amend_3 rfl ?_
  refine kx_V C rfl mv_X1_197 dX1_amend_4 ((c_cellAt H hσ hi ht hb)) (by assumption) rfl rfl (Nat.le_of_ble_eq_true rfl) ⟨(Nat.le_of_ble_eq_true rfl), (Nat.le_of_ble_eq_true rfl)⟩ (by omega) (fun r kk hp_ => ?_) (fun E1 h1 hx => x_pass C E N0 (by omega) ⟨by rw [refK_1 hx.1, hx.2.1]; exact ex1, hx.2.2⟩)
  obtain ⟨hin, rfl, rfl⟩ := hp_
  have hi' : i.toNat < σ.n := by omega
  have mok := hσ.2.2.1 i.toNat hi'
  have hT2 := mok.1.2.1
  have M := H.2.2.2.2.1 i.toNat hi'
  have G := M.2
  refine k_astore C dX1_amend_7 (Nat.le_of_ble_eq_true rfl) rfl ?_
  refine k_aload C dX1_amend_9 rfl ?_
  refine k_iload C dX1_amend_11 rfl ?_
  refine k_iload C dX1_amend_13 rfl ?_
  refine k_iload C dX1_amend_15 rfl ?_
  refine kx_S C rfl ms_X1_201 dX1_amend_17 ((c_ruleOf G mok.1 hy hv hx)) rfl rfl (Nat.le_of_ble_eq_true rfl) ⟨(Nat.le_of_ble_eq_true rfl), (Nat.le_of_ble_eq_true rfl)⟩ (by omega) (fun r h2 hp_ => ?_) (fun E1 h1 hx => x_pass C E N0 (by omega) ⟨by rw [refK_2 hin hx.1, hx.2.1]; exact ex2, hx.2.2⟩)
  obtain ⟨hr, a, rfl, a0, R2, E2⟩ := hp_
  have G2 := G.ext E2
  have G21 := G2.1
  have hX2 := E2.2 _ _ hX
  refine k_astore C dX1_amend_20 (Nat.le_of_ble_eq_true rfl) rfl ?_
  refine k_aload C dX1_amend_22 rfl ?_
  refine k_iload_n C dX1_amend_24 rfl ?_
  refine k_iload_n C dX1_amend_25 rfl ?_
  refine kx_V C rfl mv_X1_95 dX1_amend_26 ((c_cell G2 hT2 hin.2.1 (by omega))) (by assumption) rfl rfl (Nat.le_of_ble_eq_true rfl) ⟨(Nat.le_of_ble_eq_true rfl), (Nat.le_of_ble_eq_true rfl)⟩ (by omega) (fun r k2 hp_ => ?_) (fun _ _ hx => hx.elim)
  obtain ⟨o, rfl, o2, rfl⟩ := hp_
  obtain ⟨vo, o3⟩ := o2.cell
  refine kx_V C rfl mv_X1_99 dX1_amend_29 ((c_orPresent o2)) (by assumption) rfl rfl (Nat.le_of_ble_eq_true rfl) ⟨(Nat.le_of_ble_eq_true rfl), (Nat.le_of_ble_eq_true rfl)⟩ (by omega) (fun r k2 hp_ => ?_) (fun _ _ hx => hx.elim)
  obtain ⟨rfl, rfl⟩ := hp_
  cases hc : (σ.ms i.toNat).1.2 (2 * t + b) with
  | none =>
    refine kx_S C rfl ms_X1_176 dX1_amend_32 ((c_checkState (b := false))) rfl rfl (Nat.le_of_ble_eq_true rfl) ⟨(Nat.le_of_ble_eq_true rfl), (Nat.le_of_ble_eq_true rfl)⟩ (by omega) (fun r k1 hp_ => ?_) (fun E1 h1 hx => x_pass C E N0 (by omega) ⟨by rw [refK_3 hin hr (by rw [hc]; rfl), hx.2.1]; exact ex3, E2.trans hx.2.2⟩)
    obtain ⟨e, _, _⟩ := hp_
    cases e
  | some ru0 =>
    refine kx_S C rfl ms_X1_176 dX1_amend_32 ((c_checkState (b := true))) rfl rfl (Nat.le_of_ble_eq_true rfl) ⟨(Nat.le_of_ble_eq_true rfl), (Nat.le_of_ble_eq_true rfl)⟩ (by omega) (fun r k3 hp_ => ?_) (fun E1 h1 hx => absurd hx.1 (by decide))
    obtain ⟨_, rfl, rfl⟩ := hp_
    have rk := refK_0 (y := y) (v := v) (x := x) (fl := false) hin hr (by rw [hc]; rfl)
    refine k_aload C dX1_amend_35 rfl ?_
    refine k_iload_n C dX1_amend_37 rfl ?_
    refine k_iload_n C dX1_amend_38 rfl ?_
    refine k_aload C dX1_amend_39 rfl ?_
    refine kx_V C rfl mv_X1_205 dX1_amend_41 ((c_tbSet G2 hT2 hin.2.1 (by omega) R2)) (by assumption) rfl rfl (Nat.le_of_ble_eq_true rfl) ⟨(Nat.le_of_ble_eq_true rfl), (Nat.le_of_ble_eq_true rfl)⟩ (by omega) (fun r h4 hp_ => ?_) (fun _ _ hx => hx.elim)
    obtain ⟨rfl, G4, U4⟩ := hp_
    obtain ⟨-, f2, A2, -⟩ := id G2
    have M2 := M.ext E2
    obtain ⟨⟨k0, e1, e2⟩, -⟩ := id M2
    have hg2 := E2.2 _ _ H.2.2.2.1
    have M4 : isMc w h4 (X.A i.toNat).1 (X.A i.toNat).2.1 (X.A i.toNat).2.2.1 (X.A i.toNat).2.2.2 (tset (σ.ms i.toNat).1 (2 * t + b) (y, v, x), (σ.ms i.toNat).2) := ⟨⟨k0, U4.2 _ _ e1 (by simpa using ne_cel e1 A2.2.1 ne_ao), U4.2 _ _ e2 (by simpa using ne_cel e2 A2.2.1 ne_ao)⟩, G4⟩
    obtain ⟨H4, -⟩ := put_is (tk := σ.tk) (rf := σ.rf) (bk := σ.bk) H hsep hi' E2 U4 (fun y hy => Or.inr (Or.inl (by simpa using hy))) M4 (U4.2 _ _ hg2 (by simpa using ne_cel hg2 A2.2.1 ne_ao))
    have ok4 : SgOk (putG σ i.toNat (tset (σ.ms i.toNat).1 (2 * t + b) (y, v, x), (σ.ms i.toNat).2) σ.tk σ.rf σ.bk) := hσ.put ⟨tset_ok mok.1 ⟨by dsimp only; omega, hr.2.1, hr.2.2⟩, mok.2⟩ hσ.2.2.2.2.1 hσ.2.2.2.2.2.1 hσ.2.2.2.2.2.2
    have x4 := H4.1
    obtain ⟨f4, A4, F4⟩ := H4.2.1
    have l4 := A4.1
    have fi := F4 i.toNat hi'
    rw [show ((i.toNat : Nat) : Int) = i by omega] at fi
    have M41 := M4.1
    obtain ⟨k5, ea4, -⟩ := M41
    refine k_aload_n C dX1_amend_44 rfl ?_
    refine k_aload_n C dX1_amend_45 rfl ?_
    refine k_get C fg_X1_130 dX1_amend_46 (by assumption) (by rfl) ?_
    refine k_iload_n C dX1_amend_49 rfl ?_
    refine kx_F C rfl mf_X1_60 dX1_amend_50 ((c_get A4 (by show 0 ≤ i ∧ i < (σ.n : Int); omega) fi)) (by assumption) rfl rfl (Nat.le_of_ble_eq_true rfl) ⟨(Nat.le_of_ble_eq_true rfl), (Nat.le_of_ble_eq_true rfl)⟩ (by omega) (fun r k6 hp_ => ?_) (fun _ _ hx => hx.elim)
    obtain ⟨rfl, rfl⟩ := hp_
    refine k_castO C ck_X1_160_3 dX1_amend_55 (by assumption) ?_
    have tb := c_takeBack (i := i.toNat) H4 ok4 hi'
    rw [show (putG σ i.toNat (tset (σ.ms i.toNat).1 (2 * t + b) (y, v, x), (σ.ms i.toNat).2) σ.tk σ.rf σ.bk).ms i.toNat = (tset (σ.ms i.toNat).1 (2 * t + b) (y, v, x), (σ.ms i.toNat).2) from upN_at] at tb
    refine kx_VW C rfl mv_X1_209 dX1_amend_58 (tb) (by assumption) rfl rfl (Nat.le_of_ble_eq_true rfl) ⟨(Nat.le_of_ble_eq_true rfl), (Nat.le_of_ble_eq_true rfl)⟩ (by omega) (fun r h5 hp_ => ?_) (fun _ _ hx => hx.elim)
    obtain ⟨rfl, M5, g5, U5⟩ := hp_
    have st := amd_step H hsep hi' E2 G4 U4 M5 g5 U5
    exact k_zret (b := (σ.ms i.toNat).2.1.isSome) C E dX1_amend_61 (by omega) ⟨rk, rfl, st⟩
