/-! ===== prove ===== -/
set_option maxRecDepth 100000
theorem putG_cnt {σ : Sg} {i tk rf bk : Nat} : putG σ i (σ.ms i) tk rf bk = cntG σ tk rf bk := by
  have e : upN σ.ms i (σ.ms i) = σ.ms := by
    funext j
    by_cases h : j = i
    · subst h; rw [upN_at]
    · rw [upN_ne h]
  unfold putG cntG
  rw [e]
theorem prvK_1 {σ : Sg} {i k a b : Int} (h : ¬ (0 ≤ i ∧ i < σ.n)) : prvK σ i k a b = 1 := by
  unfold prvK
  rw [show mchOk σ i = false from decide_eq_false h]
  rfl
theorem prvK_2 {σ : Sg} {i k a b : Int} (h : 0 ≤ i ∧ i < σ.n) (h2 : certB k a b = false) : prvK σ i k a b = 2 := by
  unfold prvK
  rw [show mchOk σ i = true from decide_eq_true h, h2]
  rfl
theorem prvK_3 {σ : Sg} {i k a b : Int} (h : 0 ≤ i ∧ i < σ.n) (h2 : certB k a b = true) : prvK σ i k a b = if (σ.ms i.toNat).2.1.isSome then 3 else 0 := by
  unfold prvK
  rw [show mchOk σ i = true from decide_eq_true h, h2, if_pos rfl, if_pos rfl]
theorem isMc.gate {w : Wd} {h h' : Hp} {a t lst ar g : Nat} {m : Mch} {gs : List Value} (U : Upd h h' [g]) (hg : h.2 g = some (.inl (1, gs))) (H : isMc w h a t lst ar m) : isMc w h' a t lst ar m := by
  obtain ⟨⟨k, e1, e2⟩, G⟩ := id H
  obtain ⟨-, f, A, -⟩ := id G
  exact H.keep U (by simpa using ne_cel e1 hg (ne_cls (by decide))) (by simpa using ne_cel A.1 hg (ne_cls (by decide))) (by simpa using ne_cel A.2.1 hg ne_oa) (fun q hq => by
    rw [show q = g by simpa using hq]
    exact Or.inr ⟨_, hg, Or.inr (Or.inr (Or.inr ⟨_, rfl⟩))⟩)
theorem c_proveX {w : Wd} {h : Hp} {x : Nat} {X : XL} {σ : Sg} {i k a b : Int} (H : isX w h x X σ) (hsep : sepX X σ.n σ.k) (hσ : SgOk σ) (hi : i32 i) (hk : i32 k) (ha : i32 a) (hb : i32 b) : Ct w yX1_prove (ws_ yX1_prove cX1_prove 8 (some FieldType.boolean)) 11 10523 999 7304 [.ref x, jI i, jI k, jI a, jI b] h (fun r h' => prvK σ i k a b = 0 ∧ r = some (jI (b2i (takenB (σ.ms i.toNat).1 k a b))) ∧ stepX w h h' x X σ (prvG σ i.toNat k a b)) (fun E h' => exOf [sIOB, sIAE, sISE] (prvK σ i k a b) E ∧ Ext h h') := by
  have hX := H.1
  refine Ct.of (by decide) [some (.ref x), some (jI i), some (jI k), some (jI a), some (jI b), none, none, none] rfl (Nat.le_of_ble_eq_true rfl) (fun K C E N0 => ?_)
  refine k_aload_n C dX1_prove_0 rfl ?_
  refine k_iload_n C dX1_prove_1 rfl ?_
  refine kx_V C rfl mv_X1_162 dX1_prove_2 ((c_machineAt H hσ hi)) (by assumption) rfl rfl (Nat.le_of_ble_eq_true rfl) ⟨(Nat.le_of_ble_eq_true rfl), (Nat.le_of_ble_eq_true rfl)⟩ (by omega) (fun r kk hp_ => ?_) (fun E1 h1 hx => x_pass C E N0 (by omega) ⟨by rw [prvK_1 hx.1, hx.2.1]; exact ex1, hx.2.2⟩)
  obtain ⟨hin, rfl, rfl⟩ := hp_
  have hi' : i.toNat < σ.n := by omega
  have mok := hσ.2.2.1 i.toNat hi'
  have M := H.2.2.2.2.1 i.toNat hi'
  obtain ⟨⟨k0, ea, -⟩, G⟩ := id M
  have hgt := H.2.2.2.1
  have cnts := hσ.2.2.2.2
  refine k_astore C dX1_prove_5 (Nat.le_of_ble_eq_true rfl) rfl ?_
  refine k_iload_n C dX1_prove_7 rfl ?_
  refine kx_S C rfl ms_X1_269 dX1_prove_8 ((c_kindOf hk)) rfl rfl (Nat.le_of_ble_eq_true rfl) ⟨(Nat.le_of_ble_eq_true rfl), (Nat.le_of_ble_eq_true rfl)⟩ (by omega) (fun r kk hp_ => ?_) (fun E1 h1 hx => x_pass C E N0 (by omega) ⟨by rw [prvK_2 hin (by unfold certB; rw [decide_eq_false hx.1]; rfl), hx.2.1]; exact ex2, hx.2.2⟩)
  obtain ⟨hk3, rfl, rfl⟩ := hp_
  -- behind the check: the book is told, the machine decided
  have tail : ∀ (h2 : Hp) (n' k' κ : Nat) (tk : Bool), k = (κ : Int) → κ < 4 → n' ≤ 995 → k' ≤ 7266 → Ext kk h2 → prvK σ i k a b = 0 → takenB (σ.ms i.toNat).1 k a b = tk → -1000 ≤ a ∧ a ≤ 1000 ∧ -1000 ≤ b ∧ b ≤ 1000 → Wk w K h2 n' k' 53 [some (.ref x), some (jI i), some (jI k), some (jI a), some (jI b), some (.ref (X.A i.toNat).1), some (.ref (w.ad (κ + 1))), none] [jI (b2i tk)] := by
    intro h2 n' k' κ tk hkκ hκ hn hk' E2 hp htk hab
    have X2 := E2.2 _ _ hX
    have g2 := E2.2 _ _ hgt
    have M2 := M.ext E2
    have H2 := H.ext E2
    refine k_istore C dX1_prove_53 (Nat.le_of_ble_eq_true rfl) rfl ?_
    refine k_aload_n C dX1_prove_55 rfl ?_
    refine k_iload C dX1_prove_56 rfl ?_
    refine kx_VW C rfl mv_X1_283 dX1_prove_58 ((c_enter (t := tk) H2 hσ)) (by assumption) rfl rfl (Nat.le_of_ble_eq_true rfl) ⟨(Nat.le_of_ble_eq_true rfl), (Nat.le_of_ble_eq_true rfl)⟩ (by omega) (fun r h3 hp_ => ?_) (fun _ _ hx => hx.elim)
    obtain ⟨rfl, g3, U3⟩ := hp_
    have M3 := M2.gate U3 g2
    obtain ⟨⟨k3, ea3, -⟩, -⟩ := id M3
    refine k_iload C dX1_prove_61 rfl ?_
    cases tk with
    | true =>
      refine k_ifeq_b C dX1_prove_63 (tgt := 76) (by decide) (fun z => by cases z) (fun _ => ?_)
      refine k_aload C dX1_prove_66 rfl ?_
      refine k_aload C dX1_prove_68 rfl ?_
      refine k_iload_n C dX1_prove_70 rfl ?_
      refine k_iload C dX1_prove_71 rfl ?_
      refine kx_V C rfl mv_X1_286 dX1_prove_73 ((c_decideM (j := κ) M3)) (by assumption) rfl rfl (Nat.le_of_ble_eq_true rfl) ⟨(Nat.le_of_ble_eq_true rfl), (Nat.le_of_ble_eq_true rfl)⟩ (by omega) (fun r h4 hp_ => ?_) (fun _ _ hx => hx.elim)
      obtain ⟨rfl, M4, U4⟩ := hp_
      have g4 := U4.2 _ _ g3 (by simpa using ne_cel g3 ea3 (ne_cls (by decide)))
      have st := put_step (m := ((σ.ms i.toNat).1, some κ, a, b)) (tk := σ.tk + 1) (rf := σ.rf) (bk := σ.bk) H hsep hi' E2 ((U3.sub (T := [X.g, (X.A i.toNat).1]) (by simp)).trans U4 (fun q hq => Or.inl (by simp at hq; simp [hq]))) (fun y hy => by
        have hy' : y = X.g ∨ y = (X.A i.toNat).1 := by simpa using hy
        rcases hy' with z | z <;> simp [z]) M4 g4
      refine k_iload C dX1_prove_76 rfl ?_
      exact k_zret (b := true) C E dX1_prove_78 (by omega) ⟨hp, by rw [htk], by unfold prvG; rw [htk, if_pos rfl, hkκ, show ((κ : Nat) : Int).toNat = κ from rfl]; exact st⟩
    | false =>
      refine k_ifeq_b C dX1_prove_63 (tgt := 76) (by decide) (fun _ => ?_) (fun z => by cases z)
      have st := put_step (m := σ.ms i.toNat) (tk := σ.tk) (rf := σ.rf + 1) (bk := σ.bk) H hsep hi' E2 U3 (fun y hy => Or.inr (Or.inr (by simpa using hy))) M3 g3
      rw [putG_cnt] at st
      refine k_iload C dX1_prove_76 rfl ?_
      exact k_zret (b := false) C E dX1_prove_78 (by omega) ⟨hp, by rw [htk], by unfold prvG; rw [htk, if_neg (by decide)]; exact st⟩
  refine Wk.wf fun _ _ _ hcst => ?_
  refine k_astore C dX1_prove_11 (Nat.le_of_ble_eq_true rfl) rfl ?_
  refine k_aload C dX1_prove_13 rfl ?_
  refine k_iload_n C dX1_prove_15 rfl ?_
  refine k_iload C dX1_prove_16 rfl ?_
  obtain rfl | rfl | rfl | rfl : k = 0 ∨ k = 1 ∨ k = 2 ∨ k = 3 := by omega
  · have hkc := hcst.kind (show 0 < 4 by decide)
    refine kx_C C rfl mc_X1_273_17 dX1_prove_18 ((c_fitX16 ha hb)) (by assumption) rfl rfl (Nat.le_of_ble_eq_true rfl) ⟨(Nat.le_of_ble_eq_true rfl), (Nat.le_of_ble_eq_true rfl)⟩ (by omega) (fun r kk hp_ => ?_) (fun _ _ hx => hx.elim)
    obtain ⟨rfl, rfl⟩ := hp_
    refine kx_S C rfl ms_X1_147 dX1_prove_21 ((c_must (b := fitB 0 a b))) rfl rfl (Nat.le_of_ble_eq_true rfl) ⟨(Nat.le_of_ble_eq_true rfl), (Nat.le_of_ble_eq_true rfl)⟩ (by omega) (fun r k1 hp_ => ?_) (fun E1 h1 hx => x_pass C E N0 (by omega) ⟨by rw [prvK_2 hin (by unfold certB; rw [hx.1, Bool.and_false]), hx.2.1]; exact ex2, hx.2.2⟩)
    obtain ⟨hf, rfl, rfl⟩ := hp_
    have hcb : certB 0 a b = true := hf
    have hrg : 1 ≤ a ∧ a ≤ 500 ∧ b = 0 := of_decide_eq_true (show decide (1 ≤ a ∧ a ≤ 500 ∧ b = 0) = true from hf)
    have p3 := prvK_3 hin hcb
    refine k_aload C dX1_prove_24 rfl ?_
    refine kx_V C rfl mv_X1_276 dX1_prove_26 ((c_isDecided M)) (by assumption) rfl rfl (Nat.le_of_ble_eq_true rfl) ⟨(Nat.le_of_ble_eq_true rfl), (Nat.le_of_ble_eq_true rfl)⟩ (by omega) (fun r k2 hp_ => ?_) (fun _ _ hx => hx.elim)
    obtain ⟨rfl, rfl⟩ := hp_
    cases hs : (σ.ms i.toNat).2.1.isSome with
    | true =>
      rw [hs] at p3
      refine k_ifne_b C dX1_prove_29 (tgt := 36) (by decide) (fun _ => ?_) (fun z => by cases z)
      refine k_iconst C dX1_prove_36 ?_
      refine kx_S C rfl ms_X1_176 dX1_prove_37 ((c_checkState (b := false))) rfl rfl (Nat.le_of_ble_eq_true rfl) ⟨(Nat.le_of_ble_eq_true rfl), (Nat.le_of_ble_eq_true rfl)⟩ (by omega) (fun r k3 hp_ => ?_) (fun E1 h1 hx => x_pass C E N0 (by omega) ⟨by rw [p3, hx.2.1]; exact ex3, hx.2.2⟩)
      obtain ⟨e, _, _⟩ := hp_
      cases e
    | false =>
      rw [hs] at p3
      refine k_ifne_b C dX1_prove_29 (tgt := 36) (by decide) (fun z => by cases z) (fun _ => ?_)
      refine k_iconst C dX1_prove_32 ?_
      refine k_goto C dX1_prove_33 (tgt := 37) (by decide) ?_
      refine kx_S C rfl ms_X1_176 dX1_prove_37 ((c_checkState (b := true))) rfl rfl (Nat.le_of_ble_eq_true rfl) ⟨(Nat.le_of_ble_eq_true rfl), (Nat.le_of_ble_eq_true rfl)⟩ (by omega) (fun r k3 hp_ => ?_) (fun E1 h1 hx => absurd hx.1 (by decide))
      obtain ⟨_, rfl, rfl⟩ := hp_
      obtain ⟨A, rfl⟩ : ∃ A : Nat, a = (A : Int) := ⟨a.toNat, by omega⟩
      refine k_aload C dX1_prove_40 rfl ?_
      refine k_aload C dX1_prove_42 rfl ?_
      refine k_getN C fn_X1_166 dX1_prove_44 (by assumption) (by rfl) ?_
      refine k_iload_n C dX1_prove_47 rfl ?_
      refine k_iload C dX1_prove_48 rfl ?_
      refine kx_C C rfl mc_X1_279_17 dX1_prove_50 ((c_stopTakes (a := A) (b := b) (by omega) G mok.1)) (by assumption) rfl rfl (Nat.le_of_ble_eq_true rfl) ⟨(Nat.le_of_ble_eq_true rfl), (Nat.le_of_ble_eq_true rfl)⟩ (by omega) (fun r h2 hp_ => ?_) (fun _ _ hx => hx.elim)
      obtain ⟨rfl, E2⟩ := hp_
      exact tail h2 _ _ 0 (stopTakes (σ.ms i.toNat).1 A) rfl (by decide) (by omega) (by omega) E2 p3 rfl (by omega)
  · have hkc := hcst.kind (show 1 < 4 by decide)
    refine kx_C C rfl mc_X1_273_18 dX1_prove_18 ((c_fitX18 ha hb)) (by assumption) rfl rfl (Nat.le_of_ble_eq_true rfl) ⟨(Nat.le_of_ble_eq_true rfl), (Nat.le_of_ble_eq_true rfl)⟩ (by omega) (fun r kk hp_ => ?_) (fun _ _ hx => hx.elim)
    obtain ⟨rfl, rfl⟩ := hp_
    refine kx_S C rfl ms_X1_147 dX1_prove_21 ((c_must (b := fitB 1 a b))) rfl rfl (Nat.le_of_ble_eq_true rfl) ⟨(Nat.le_of_ble_eq_true rfl), (Nat.le_of_ble_eq_true rfl)⟩ (by omega) (fun r k1 hp_ => ?_) (fun E1 h1 hx => x_pass C E N0 (by omega) ⟨by rw [prvK_2 hin (by unfold certB; rw [hx.1, Bool.and_false]), hx.2.1]; exact ex2, hx.2.2⟩)
    obtain ⟨hf, rfl, rfl⟩ := hp_
    have hcb : certB 1 a b = true := hf
    have hrg : 0 ≤ a ∧ a ≤ 150 ∧ 1 ≤ b ∧ b ≤ 150 := of_decide_eq_true (show decide (0 ≤ a ∧ a ≤ 150 ∧ 1 ≤ b ∧ b ≤ 150) = true from hf)
    have p3 := prvK_3 hin hcb
    refine k_aload C dX1_prove_24 rfl ?_
    refine kx_V C rfl mv_X1_276 dX1_prove_26 ((c_isDecided M)) (by assumption) rfl rfl (Nat.le_of_ble_eq_true rfl) ⟨(Nat.le_of_ble_eq_true rfl), (Nat.le_of_ble_eq_true rfl)⟩ (by omega) (fun r k2 hp_ => ?_) (fun _ _ hx => hx.elim)
    obtain ⟨rfl, rfl⟩ := hp_
    cases hs : (σ.ms i.toNat).2.1.isSome with
    | true =>
      rw [hs] at p3
      refine k_ifne_b C dX1_prove_29 (tgt := 36) (by decide) (fun _ => ?_) (fun z => by cases z)
      refine k_iconst C dX1_prove_36 ?_
      refine kx_S C rfl ms_X1_176 dX1_prove_37 ((c_checkState (b := false))) rfl rfl (Nat.le_of_ble_eq_true rfl) ⟨(Nat.le_of_ble_eq_true rfl), (Nat.le_of_ble_eq_true rfl)⟩ (by omega) (fun r k3 hp_ => ?_) (fun E1 h1 hx => x_pass C E N0 (by omega) ⟨by rw [p3, hx.2.1]; exact ex3, hx.2.2⟩)
      obtain ⟨e, _, _⟩ := hp_
      cases e
    | false =>
      rw [hs] at p3
      refine k_ifne_b C dX1_prove_29 (tgt := 36) (by decide) (fun z => by cases z) (fun _ => ?_)
      refine k_iconst C dX1_prove_32 ?_
      refine k_goto C dX1_prove_33 (tgt := 37) (by decide) ?_
      refine kx_S C rfl ms_X1_176 dX1_prove_37 ((c_checkState (b := true))) rfl rfl (Nat.le_of_ble_eq_true rfl) ⟨(Nat.le_of_ble_eq_true rfl), (Nat.le_of_ble_eq_true rfl)⟩ (by omega) (fun r k3 hp_ => ?_) (fun E1 h1 hx => absurd hx.1 (by decide))
      obtain ⟨_, rfl, rfl⟩ := hp_
      obtain ⟨A, rfl⟩ : ∃ A : Nat, a = (A : Int) := ⟨a.toNat, by omega⟩
      obtain ⟨B, rfl⟩ : ∃ B : Nat, b = (B : Int) := ⟨b.toNat, by omega⟩
      refine k_aload C dX1_prove_40 rfl ?_
      refine k_aload C dX1_prove_42 rfl ?_
      refine k_getN C fn_X1_166 dX1_prove_44 (by assumption) (by rfl) ?_
      refine k_iload_n C dX1_prove_47 rfl ?_
      refine k_iload C dX1_prove_48 rfl ?_
      refine kx_C C rfl mc_X1_279_18 dX1_prove_50 ((c_cycTakes (a := A) (b := B) (by omega) G mok.1)) (by assumption) rfl rfl (Nat.le_of_ble_eq_true rfl) ⟨(Nat.le_of_ble_eq_true rfl), (Nat.le_of_ble_eq_true rfl)⟩ (by omega) (fun r h2 hp_ => ?_) (fun _ _ hx => hx.elim)
      obtain ⟨rfl, E2⟩ := hp_
      exact tail h2 _ _ 1 (cycB (σ.ms i.toNat).1 A B) rfl (by decide) (by omega) (by omega) E2 p3 rfl (by omega)
  · have hkc := hcst.kind (show 2 < 4 by decide)
    refine kx_C C rfl mc_X1_273_19 dX1_prove_18 ((c_fitX17 ha hb)) (by assumption) rfl rfl (Nat.le_of_ble_eq_true rfl) ⟨(Nat.le_of_ble_eq_true rfl), (Nat.le_of_ble_eq_true rfl)⟩ (by omega) (fun r kk hp_ => ?_) (fun _ _ hx => hx.elim)
    obtain ⟨rfl, rfl⟩ := hp_
    refine kx_S C rfl ms_X1_147 dX1_prove_21 ((c_must (b := fitB 2 a b))) rfl rfl (Nat.le_of_ble_eq_true rfl) ⟨(Nat.le_of_ble_eq_true rfl), (Nat.le_of_ble_eq_true rfl)⟩ (by omega) (fun r k1 hp_ => ?_) (fun E1 h1 hx => x_pass C E N0 (by omega) ⟨by rw [prvK_2 hin (by unfold certB; rw [hx.1, Bool.and_false]), hx.2.1]; exact ex2, hx.2.2⟩)
    obtain ⟨hf, rfl, rfl⟩ := hp_
    have hcb : certB 2 a b = true := hf
    have hrg : 1 ≤ a ∧ a ≤ 6 ∧ b = 0 := of_decide_eq_true (show decide (1 ≤ a ∧ a ≤ 6 ∧ b = 0) = true from hf)
    have p3 := prvK_3 hin hcb
    refine k_aload C dX1_prove_24 rfl ?_
    refine kx_V C rfl mv_X1_276 dX1_prove_26 ((c_isDecided M)) (by assumption) rfl rfl (Nat.le_of_ble_eq_true rfl) ⟨(Nat.le_of_ble_eq_true rfl), (Nat.le_of_ble_eq_true rfl)⟩ (by omega) (fun r k2 hp_ => ?_) (fun _ _ hx => hx.elim)
    obtain ⟨rfl, rfl⟩ := hp_
    cases hs : (σ.ms i.toNat).2.1.isSome with
    | true =>
      rw [hs] at p3
      refine k_ifne_b C dX1_prove_29 (tgt := 36) (by decide) (fun _ => ?_) (fun z => by cases z)
      refine k_iconst C dX1_prove_36 ?_
      refine kx_S C rfl ms_X1_176 dX1_prove_37 ((c_checkState (b := false))) rfl rfl (Nat.le_of_ble_eq_true rfl) ⟨(Nat.le_of_ble_eq_true rfl), (Nat.le_of_ble_eq_true rfl)⟩ (by omega) (fun r k3 hp_ => ?_) (fun E1 h1 hx => x_pass C E N0 (by omega) ⟨by rw [p3, hx.2.1]; exact ex3, hx.2.2⟩)
      obtain ⟨e, _, _⟩ := hp_
      cases e
    | false =>
      rw [hs] at p3
      refine k_ifne_b C dX1_prove_29 (tgt := 36) (by decide) (fun z => by cases z) (fun _ => ?_)
      refine k_iconst C dX1_prove_32 ?_
      refine k_goto C dX1_prove_33 (tgt := 37) (by decide) ?_
      refine kx_S C rfl ms_X1_176 dX1_prove_37 ((c_checkState (b := true))) rfl rfl (Nat.le_of_ble_eq_true rfl) ⟨(Nat.le_of_ble_eq_true rfl), (Nat.le_of_ble_eq_true rfl)⟩ (by omega) (fun r k3 hp_ => ?_) (fun E1 h1 hx => absurd hx.1 (by decide))
      obtain ⟨_, rfl, rfl⟩ := hp_
      obtain ⟨A, rfl⟩ : ∃ A : Nat, a = (A : Int) := ⟨a.toNat, by omega⟩
      refine k_aload C dX1_prove_40 rfl ?_
      refine k_aload C dX1_prove_42 rfl ?_
      refine k_getN C fn_X1_166 dX1_prove_44 (by assumption) (by rfl) ?_
      refine k_iload_n C dX1_prove_47 rfl ?_
      refine k_iload C dX1_prove_48 rfl ?_
      refine kx_C C rfl mc_X1_279_19 dX1_prove_50 ((c_backTakes (a := A) (b := b) (by omega) G mok.1)) (by assumption) rfl rfl (Nat.le_of_ble_eq_true rfl) ⟨(Nat.le_of_ble_eq_true rfl), (Nat.le_of_ble_eq_true rfl)⟩ (by omega) (fun r h2 hp_ => ?_) (fun _ _ hx => hx.elim)
      obtain ⟨rfl, E2⟩ := hp_
      exact tail h2 _ _ 2 (backTakes (σ.ms i.toNat).1 A) rfl (by decide) (by omega) (by omega) E2 p3 rfl (by omega)
  · have hkc := hcst.kind (show 3 < 4 by decide)
    refine kx_C C rfl mc_X1_273_20 dX1_prove_18 ((c_fitX19 ha hb)) (by assumption) rfl rfl (Nat.le_of_ble_eq_true rfl) ⟨(Nat.le_of_ble_eq_true rfl), (Nat.le_of_ble_eq_true rfl)⟩ (by omega) (fun r kk hp_ => ?_) (fun _ _ hx => hx.elim)
    obtain ⟨rfl, rfl⟩ := hp_
    refine kx_S C rfl ms_X1_147 dX1_prove_21 ((c_must (b := fitB 3 a b))) rfl rfl (Nat.le_of_ble_eq_true rfl) ⟨(Nat.le_of_ble_eq_true rfl), (Nat.le_of_ble_eq_true rfl)⟩ (by omega) (fun r k1 hp_ => ?_) (fun E1 h1 hx => x_pass C E N0 (by omega) ⟨by rw [prvK_2 hin (by unfold certB; rw [hx.1, Bool.and_false]), hx.2.1]; exact ex2, hx.2.2⟩)
    obtain ⟨hf, rfl, rfl⟩ := hp_
    have hcb : certB 3 a b = true := hf
    have hrg : 1 ≤ a ∧ a ≤ 3 ∧ b = 0 := of_decide_eq_true (show decide (1 ≤ a ∧ a ≤ 3 ∧ b = 0) = true from hf)
    have p3 := prvK_3 hin hcb
    refine k_aload C dX1_prove_24 rfl ?_
    refine kx_V C rfl mv_X1_276 dX1_prove_26 ((c_isDecided M)) (by assumption) rfl rfl (Nat.le_of_ble_eq_true rfl) ⟨(Nat.le_of_ble_eq_true rfl), (Nat.le_of_ble_eq_true rfl)⟩ (by omega) (fun r k2 hp_ => ?_) (fun _ _ hx => hx.elim)
    obtain ⟨rfl, rfl⟩ := hp_
    cases hs : (σ.ms i.toNat).2.1.isSome with
    | true =>
      rw [hs] at p3
      refine k_ifne_b C dX1_prove_29 (tgt := 36) (by decide) (fun _ => ?_) (fun z => by cases z)
      refine k_iconst C dX1_prove_36 ?_
      refine kx_S C rfl ms_X1_176 dX1_prove_37 ((c_checkState (b := false))) rfl rfl (Nat.le_of_ble_eq_true rfl) ⟨(Nat.le_of_ble_eq_true rfl), (Nat.le_of_ble_eq_true rfl)⟩ (by omega) (fun r k3 hp_ => ?_) (fun E1 h1 hx => x_pass C E N0 (by omega) ⟨by rw [p3, hx.2.1]; exact ex3, hx.2.2⟩)
      obtain ⟨e, _, _⟩ := hp_
      cases e
    | false =>
      rw [hs] at p3
      refine k_ifne_b C dX1_prove_29 (tgt := 36) (by decide) (fun z => by cases z) (fun _ => ?_)
      refine k_iconst C dX1_prove_32 ?_
      refine k_goto C dX1_prove_33 (tgt := 37) (by decide) ?_
      refine kx_S C rfl ms_X1_176 dX1_prove_37 ((c_checkState (b := true))) rfl rfl (Nat.le_of_ble_eq_true rfl) ⟨(Nat.le_of_ble_eq_true rfl), (Nat.le_of_ble_eq_true rfl)⟩ (by omega) (fun r k3 hp_ => ?_) (fun E1 h1 hx => absurd hx.1 (by decide))
      obtain ⟨_, rfl, rfl⟩ := hp_
      obtain ⟨A, rfl⟩ : ∃ A : Nat, a = (A : Int) := ⟨a.toNat, by omega⟩
      refine k_aload C dX1_prove_40 rfl ?_
      refine k_aload C dX1_prove_42 rfl ?_
      refine k_getN C fn_X1_166 dX1_prove_44 (by assumption) (by rfl) ?_
      refine k_iload_n C dX1_prove_47 rfl ?_
      refine k_iload C dX1_prove_48 rfl ?_
      refine kx_C C rfl mc_X1_279_20 dX1_prove_50 ((c_gramTakes (n := A) (b := b) (by omega) G mok.1)) (by assumption) rfl rfl (Nat.le_of_ble_eq_true rfl) ⟨(Nat.le_of_ble_eq_true rfl), (Nat.le_of_ble_eq_true rfl)⟩ (by omega) (fun r h2 hp_ => ?_) (fun _ _ hx => hx.elim)
      obtain ⟨rfl, E2⟩ := hp_
      exact tail h2 _ _ 3 (gramB (σ.ms i.toNat).1 A) rfl (by decide) (by omega) (by omega) E2 p3 rfl (by omega)
