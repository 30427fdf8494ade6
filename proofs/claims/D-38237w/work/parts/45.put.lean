/-! ===== tag, decide ===== -/
set_option maxRecDepth 100000
/-- one tag more -/
def addT (σ : Sg) (g : Tg) : Sg := (σ.n, σ.ms, σ.k + 1, upN σ.tg σ.k g, σ.tk, σ.rf, σ.bk)
/-- a machine, and the gate's counts, put anew -/
def putG (σ : Sg) (i : Nat) (m : Mch) (tk rf bk : Nat) : Sg := (σ.n, upN σ.ms i m, σ.k, σ.tg, tk, rf, bk)
theorem put_step {w : Wd} {h hM h' : Hp} {x i tk rf bk : Nat} {X : XL} {σ : Sg} {m : Mch} {S : List Nat} (H : isX w h x X σ) (hsep : sepX X σ.n σ.k) (hi : i < σ.n) (E : Ext h hM) (U : Upd hM h' S) (hS : ∀ y ∈ S, y = (X.A i).1 ∨ y = (X.A i).2.2.2 ∨ y = X.g)
    (Mn : isMc w h' (X.A i).1 (X.A i).2.1 (X.A i).2.2.1 (X.A i).2.2.2 m) (hg : h'.2 X.g = some (.inl (1, [jI (tk : Nat), jI (rf : Nat), jI (bk : Nat)]))) : stepX w h h' x X σ (putG σ i m tk rf bk) := by
  obtain ⟨s12, s3, s4, s5, s6⟩ := id hsep
  obtain ⟨hX, ⟨f, A, F⟩, ⟨ft, At, Ft⟩, hgt, M, TG⟩ := id H
  have HM := H.ext E
  obtain ⟨hX', ⟨f', A', F'⟩, ⟨ft', At', Ft'⟩, hgt', M', TG'⟩ := id HM
  obtain ⟨⟨k0, ei, -⟩, -, fi, Ai, -⟩ := id (M' i hi)
  have hcls : ∀ y ∈ S, hM.2 y = none ∨ ∃ c : Cel, hM.2 y = some c ∧ ((∃ x, c = .inl (14, x)) ∨ (∃ n x, c = .inr (4, n, x)) ∨ (∃ x, c = .inl (3, x)) ∨ (∃ x, c = .inl (1, x))) := fun y hy => by
    rcases hS y hy with z | z | z
    · exact Or.inr ⟨_, by rw [z]; exact ei, Or.inr (Or.inr (Or.inl ⟨_, rfl⟩))⟩
    · exact Or.inr ⟨_, by rw [z]; exact Ai.2.1, Or.inr (Or.inl ⟨_, _, rfl⟩)⟩
    · exact Or.inr ⟨_, by rw [z]; exact hgt', Or.inr (Or.inr (Or.inr ⟨_, rfl⟩))⟩
  have notin : ∀ (y : Nat) (d : Cel), hM.2 y = some d → (∀ v : List Value, d ≠ .inl (3, v)) → (∀ (n : Nat) (v : Nat → Value), d ≠ .inr (4, n, v)) → (∀ v : List Value, d ≠ .inl (1, v)) → y ∉ S := fun y d e k1 k2 k3 hy => by
    rcases hS y hy with z | z | z
    · rw [z, ei] at e; exact k1 _ (Option.some.inj e).symm
    · rw [z, Ai.2.1] at e; exact k2 _ _ (Option.some.inj e).symm
    · rw [z, hgt'] at e; exact k3 _ (Option.some.inj e).symm
  have arr : ∀ (y N : Nat) (fy : Int → Option Nat), hM.2 y = some (aR 4 N fy) → (0 < N → (X.A i).2.2.2 ≠ y) → y ∉ S := fun y N fy e hne hy => by
    rcases hS y hy with z | z | z
    · exact ne_cel e ei ne_oa z
    · by_cases hN : 0 < N
      · exact hne hN z.symm
      · rw [z, Ai.2.1] at e
        have e2 := (Prod.mk.inj (Prod.mk.inj (Sum.inr.inj (Option.some.inj e))).2).1
        omega
    · exact ne_cel e hgt' ne_oa z
  have lmS := notin _ _ A'.1 (fun v e => by cases e) (fun n v e => by cases e) (fun v e => by cases e)
  have ltS := notin _ _ At'.1 (fun v e => by cases e) (fun n v e => by cases e) (fun v e => by cases e)
  have amS := arr _ _ _ A'.2.1 (s5 i hi).2.2.1
  have atS := arr _ _ _ At'.2.1 (s5 i hi).2.2.2
  refine ⟨X, ⟨U.2 _ _ hX' (notin _ _ hX' (fun v e => by cases e) (fun n v e => by cases e) (fun v e => by cases e)), ⟨f', A'.upd U lmS amS, F'⟩, ⟨ft', At'.upd U ltS atS, Ft'⟩, hg, fun j hj => ?_, fun j hj => (TG' j hj).keep U hcls⟩, hsep, ?_, fun y hy => Or.inl hy⟩
  · show isMc w h' (X.A j).1 (X.A j).2.1 (X.A j).2.2.1 (X.A j).2.2.2 (upN σ.ms i m j)
    by_cases e : j = i
    · subst e; rw [upN_at]; exact Mn
    · rw [upN_ne e]
      have Mj := M' j hj
      obtain ⟨⟨kj, ej, -⟩, -, fj, Aj, -⟩ := id Mj
      obtain ⟨d1, d2⟩ := s6 j i hj hi e
      refine Mj.keep U (fun hy => ?_) (notin _ _ Aj.1 (fun v e => by cases e) (fun n v e => by cases e) (fun v e => by cases e)) (arr _ _ _ Aj.2.1 (fun _ z => d2 z.symm)) hcls
      rcases hS _ hy with z | z | z
      · exact d1 z
      · exact ne_cel ej Ai.2.1 ne_ao z
      · exact ne_cel ej hgt' (ne_cls (by decide)) z
  · exact (E.updP _).trans (U.updP (P := ownX X σ.n) (fun y hy => by
      rcases hS y hy with z | z | z
      · exact Or.inr (Or.inr (Or.inr (Or.inr (Or.inr ⟨i, hi, Or.inl z⟩))))
      · exact Or.inr (Or.inr (Or.inr (Or.inr (Or.inr ⟨i, hi, Or.inr (Or.inr z)⟩))))
      · exact Or.inr (Or.inr (Or.inr (Or.inr (Or.inl z)))))) (fun y hy => Or.inl hy)
/-- nothing of the component was changed -/
theorem same_step {w : Wd} {h h' : Hp} {x : Nat} {X : XL} {σ : Sg} (H : isX w h x X σ) (hsep : sepX X σ.n σ.k) (E : Ext h h') : stepX w h h' x X σ σ := ⟨X, H.ext E, hsep, E.updP _, fun _ hy => Or.inl hy⟩
/-- what a search finds: the kind, and what the certificate tells -/
def decM (m : Mch) : Mch := if stopB m.1 (runN m.1 500 c0) then (m.1, some 0, ((runN m.1 500 c0).n : Int), 0) else if cycNow m.1 30 ≠ -1 then (m.1, some 1, cycNow m.1 30 / 200, cycNow m.1 30 % 200) else if backNow m.1 ≠ -1 then (m.1, some 2, backNow m.1, 0) else if gramNow m.1 ≠ -1 then (m.1, some 3, gramNow m.1, 0) else m
theorem fnd_ex {α : Type} {f : Nat → Option α} : ∀ (d i : Nat) (x : α), fnd f i d = some x → ∃ j, i ≤ j ∧ j < i + d ∧ f j = some x
  | 0, i, x, h => by cases h
  | d + 1, i, x, h => by
    cases hf : f i with
    | none =>
      rw [fnd_none hf] at h
      obtain ⟨j, j0, j1, j2⟩ := fnd_ex d (i + 1) x h
      exact ⟨j, by omega, by omega, j2⟩
    | some y =>
      rw [fnd_some hf] at h
      exact ⟨i, Nat.le_refl _, by omega, by rw [hf]; exact h⟩
theorem cycNow_b {T : Tb} {b : Nat} : cycNow T b = -1 ∨ ∃ a c : Nat, cycNow T b = 200 * a + c ∧ a + c ≤ b ∧ 1 ≤ c := by
  have hn : (runN T b c0).n ≤ b := by
    have := (runN_n (T := T) b c0).1
    have e : c0.n = 0 := rfl
    omega
  unfold cycNow
  cases h : fnd (cycE T) 1 (runN T b c0).n with
  | none => exact Or.inl rfl
  | some z =>
    right
    obtain ⟨e, e0, e1, e2⟩ := fnd_ex _ _ _ h
    unfold cycE at e2
    obtain ⟨a, a0, a1, a2⟩ := fnd_ex _ _ _ e2
    unfold cycA at a2
    split at a2
    · refine ⟨a, e - a, ?_, by omega, by omega⟩
      have := Option.some.inj a2
      show z = _
      omega
    · cases a2
theorem cycNow_r {T : Tb} {b : Nat} (hb : b ≤ 40) : -1 ≤ cycNow T b ∧ cycNow T b ≤ 9000 := by
  rcases cycNow_b (T := T) (b := b) with h | ⟨a, c, h, h2, h3⟩ <;> omega
theorem backNow_r {T : Tb} : -1 ≤ backNow T ∧ backNow T ≤ 6 := by
  have := emptyD_b (T := T)
  unfold backNow
  split <;> omega
theorem gramNow_r {T : Tb} : -1 ≤ gramNow T ∧ gramNow T ≤ 3 := by
  unfold gramNow
  split
  · omega
  · split
    · omega
    · split <;> omega
theorem decM_ok {m : Mch} (hm : MchOk m) : MchOk (decM m) := by
  have r1 := (runN_c0 hm.1 500).2
  have r2 := cycNow_r (T := m.1) (b := 30) (by omega)
  have r3 := backNow_r (T := m.1)
  have r4 := gramNow_r (T := m.1)
  unfold decM
  split
  · exact ⟨hm.1, fun κ e => by cases e; decide, by dsimp only; omega⟩
  · split
    · exact ⟨hm.1, fun κ e => by cases e; decide, by dsimp only; omega⟩
    · split
      · exact ⟨hm.1, fun κ e => by cases e; decide, by dsimp only; omega⟩
      · split
        · exact ⟨hm.1, fun κ e => by cases e; decide, by dsimp only; omega⟩
        · exact hm
def decK (σ : Sg) (m : Int) : Nat := if mchOk σ m then (if (σ.ms m.toNat).2.1.isSome then 2 else 0) else 1
theorem putG_same {σ : Sg} {i : Nat} : putG σ i (σ.ms i) σ.tk σ.rf σ.bk = σ := by
  have e : upN σ.ms i (σ.ms i) = σ.ms := by
    funext j
    by_cases h : j = i
    · subst h; rw [upN_at]
    · rw [upN_ne h]
  obtain ⟨n, ms, k, tg, a, b, c⟩ := σ
  show (n, upN ms i (ms i), k, tg, a, b, c) = _
  rw [show upN ms i (ms i) = ms from e]
theorem c_decideX {w : Wd} {h : Hp} {x : Nat} {X : XL} {σ : Sg} {m : Int} (H : isX w h x X σ) (hsep : sepX X σ.n σ.k) (hσ : SgOk σ) (hm : i32 m) : Ct w yX1_decide (ws_ yX1_decide cX1_decide 7 (some FieldType.int)) 12 305 1080 12040 [.ref x, jI m] h (fun v h' => decK σ m = 0 ∧ v = some (jI (kindN (decM (σ.ms m.toNat)))) ∧ stepX w h h' x X σ (putG σ m.toNat (decM (σ.ms m.toNat)) σ.tk σ.rf σ.bk)) (fun E h' => exOf [sIOB, sISE] (decK σ m) E ∧ Ext h h') := by
  have hX := H.1
  unfold decK mchOk
  refine Ct.of (by decide) [some (.ref x), some (jI m), none, none, none, none, none] rfl (Nat.le_of_ble_eq_true rfl) (fun K C E N0 => ?_)
  refine k_aload_n C dX1_decide_0 rfl ?_
  refine k_iload_n C dX1_decide_1 rfl ?_
  refine kx_V C rfl mv_X1_162 dX1_decide_2 ((c_machineAt H hσ hm)) (by assumption) rfl rfl (Nat.le_of_ble_eq_true rfl) ⟨(Nat.le_of_ble_eq_true rfl), (Nat.le_of_ble_eq_true rfl)⟩ (by omega) (fun v kk hp_ => ?_) (fun E1 h1 hx => x_pass C E N0 (by omega) ⟨by rw [decide_eq_false hx.1, hx.2.1]; exact ex1, hx.2.2⟩)
  obtain ⟨hin, rfl, rfl⟩ := hp_
  rw [decide_eq_true hin, if_pos rfl] at E
  have hi : m.toNat < σ.n := by omega
  have M := H.2.2.2.2.1 m.toNat hi
  have hok := hσ.2.2.1 m.toNat hi
  have hgt := H.2.2.2.1
  obtain ⟨⟨k0, ea, -⟩, G⟩ := id M
  refine k_astore_n C dX1_decide_5 (Nat.le_of_ble_eq_true rfl) rfl ?_
  refine k_aload_n C dX1_decide_6 rfl ?_
  refine kx_V C rfl mv_X1_276 dX1_decide_7 ((c_isDecided M)) (by assumption) rfl rfl (Nat.le_of_ble_eq_true rfl) ⟨(Nat.le_of_ble_eq_true rfl), (Nat.le_of_ble_eq_true rfl)⟩ (by omega) (fun v kk hp_ => ?_) (fun _ _ hx => hx.elim)
  obtain ⟨rfl, rfl⟩ := hp_
  refine k_ifne_b C dX1_decide_10 (tgt := 17) (by decide) (fun g1 => ?_) (fun g2 => ?_)
  · rw [if_pos g1] at E
    refine k_iconst C dX1_decide_17 ?_
    refine kx_S C rfl ms_X1_176 dX1_decide_18 ((c_checkState (b := false))) rfl rfl (Nat.le_of_ble_eq_true rfl) ⟨(Nat.le_of_ble_eq_true rfl), (Nat.le_of_ble_eq_true rfl)⟩ (by omega) (fun v k1 hp_ => ?_) (fun E1 h1 hx => x_pass C E N0 (by omega) ⟨by rw [hx.2.1]; exact ex2, hx.2.2⟩)
    obtain ⟨e, _, _⟩ := hp_
    cases e
  · rw [if_neg (by rw [g2]; decide)] at E
    have q0 := lk_num
    have r1 := runN_c0 hok.1 500
    refine k_iconst C dX1_decide_13 ?_
    refine k_goto C dX1_decide_14 (tgt := 18) (by decide) ?_
    refine kx_S C rfl ms_X1_176 dX1_decide_18 ((c_checkState (b := true))) rfl rfl (Nat.le_of_ble_eq_true rfl) ⟨(Nat.le_of_ble_eq_true rfl), (Nat.le_of_ble_eq_true rfl)⟩ (by omega) (fun v k1 hp_ => ?_) (fun E1 h1 hx => absurd hx.1 (by decide))
    obtain ⟨_, rfl, rfl⟩ := hp_
    refine k_aload_n C dX1_decide_21 rfl ?_
    refine k_sipush C dX1_decide_22 (by decide) ?_
    refine kx_S C rfl ms_X1_222 dX1_decide_25 ((c_walked (R := 500) M hok (by omega))) rfl rfl (Nat.le_of_ble_eq_true rfl) ⟨(Nat.le_of_ble_eq_true rfl), (Nat.le_of_ble_eq_true rfl)⟩ (by omega) (fun v h2 hp_ => ?_) (fun _ _ hx => hx.elim)
    obtain ⟨q, tp, rfl, qq0, tp0, W2, E2⟩ := hp_
    have ea2 := E2.2 _ _ ea
    refine k_astore_n C dX1_decide_28 (Nat.le_of_ble_eq_true rfl) rfl ?_
    refine k_aload_n C dX1_decide_29 rfl ?_
    refine k_getN C fn_X1_166 dX1_decide_30 (by assumption) (by rfl) ?_
    refine k_bipush C dX1_decide_33 (by decide) ?_
    refine kx_S C rfl ms_X1_294 dX1_decide_35 ((c_cycleNow (b := 30) (G.ext E2) hok.1 (by omega))) rfl rfl (Nat.le_of_ble_eq_true rfl) ⟨(Nat.le_of_ble_eq_true rfl), (Nat.le_of_ble_eq_true rfl)⟩ (by omega) (fun v h3 hp_ => ?_) (fun _ _ hx => hx.elim)
    obtain ⟨rfl, E3⟩ := hp_
    have E23 := E2.trans E3
    have ea3 := E23.2 _ _ ea
    refine k_istore C dX1_decide_38 (Nat.le_of_ble_eq_true rfl) rfl ?_
    refine k_aload_n C dX1_decide_40 rfl ?_
    refine k_getN C fn_X1_166 dX1_decide_41 (by assumption) (by rfl) ?_
    refine kx_S C rfl ms_X1_298 dX1_decide_44 ((c_backNow (G.ext E23) hok.1)) rfl rfl (Nat.le_of_ble_eq_true rfl) ⟨(Nat.le_of_ble_eq_true rfl), (Nat.le_of_ble_eq_true rfl)⟩ (by omega) (fun v h4 hp_ => ?_) (fun _ _ hx => hx.elim)
    obtain ⟨rfl, E4⟩ := hp_
    have E24 := E23.trans E4
    have ea4 := E24.2 _ _ ea
    refine k_istore C dX1_decide_47 (Nat.le_of_ble_eq_true rfl) rfl ?_
    refine k_aload_n C dX1_decide_49 rfl ?_
    refine k_getN C fn_X1_166 dX1_decide_50 (by assumption) (by rfl) ?_
    refine kx_S C rfl ms_X1_302 dX1_decide_53 ((c_gramNow (G.ext E24) hok.1)) rfl rfl (Nat.le_of_ble_eq_true rfl) ⟨(Nat.le_of_ble_eq_true rfl), (Nat.le_of_ble_eq_true rfl)⟩ (by omega) (fun v h5 hp_ => ?_) (fun _ _ hx => hx.elim)
    obtain ⟨rfl, E5⟩ := hp_
    have E25 := E24.trans E5
    have ea5 := E25.2 _ _ ea
    have M5 := M.ext E25
    have W5 := ((W2.ext E3).ext E4).ext E5
    have W51 := W5.1
    have g5 := E25.2 _ _ hgt
    have cr := cycNow_r (T := (σ.ms m.toNat).1) (b := 30) (by omega)
    have br := backNow_r (T := (σ.ms m.toNat).1)
    have gr := gramNow_r (T := (σ.ms m.toNat).1)
    -- the end, from any of the ways
    have fin : ∀ (h' : Hp) (n k : Nat) (m' : Mch), m' = decM (σ.ms m.toNat) → n ≤ 1080 → k ≤ 12040 → isMc w h' (X.A m.toNat).1 (X.A m.toNat).2.1 (X.A m.toNat).2.2.1 (X.A m.toNat).2.2.2 m' → Upd h5 h' [(X.A m.toNat).1] → Wk w K h' n k 143 [some (.ref x), some (jI m), some (.ref (X.A m.toNat).1), none, none, none, none] [] := by
      intro h' n k m' hm' hn hk M' U'
      have hok' : MchOk m' := by rw [hm']; exact decM_ok hok
      have gx : h'.2 X.g = some (.inl (1, [jI (σ.tk : Nat), jI (σ.rf : Nat), jI (σ.bk : Nat)])) := U'.2 _ _ g5 (by simp [ne_cel g5 ea5 (ne_cls (by decide))])
      have st := put_step (m := m') (tk := σ.tk) (rf := σ.rf) (bk := σ.bk) H hsep hi E25 U' (fun y hy => Or.inl (by simpa using hy)) M' gx
      rw [hm'] at st
      obtain ⟨⟨k', ea', ek'⟩, G'⟩ := id M'
      have ek2 := ek'
      unfold isOp at ek2
      refine Wk.wf fun _ _ _ hcst => ?_
      refine k_aload_n C dX1_decide_143 rfl ?_
      refine kx_V C rfl mv_X1_276 dX1_decide_144 ((c_isDecided M')) (by assumption) rfl rfl (Nat.le_of_ble_eq_true rfl) ⟨(Nat.le_of_ble_eq_true rfl), (Nat.le_of_ble_eq_true rfl)⟩ (by omega) (fun v kk hp_ => ?_) (fun _ _ hx => hx.elim)
      obtain ⟨rfl, rfl⟩ := hp_
      cases hk2 : m'.2.1 with
      | none =>
        refine k_ifeq_b C dX1_decide_147 (tgt := 166) (by decide) (fun g1 => ?_) (fun g1 => by cases g1)
        refine k_iconst C dX1_decide_166 ?_
        rw [show (-1 : Int) = kindN (decM (σ.ms m.toNat)) by rw [← hm']; unfold kindN; rw [hk2]]
        exact k_iret C E dX1_decide_167 (by omega) ⟨rfl, rfl, st⟩
      | some κ =>
        rw [hk2] at ek'
        have hκ := hok'.2.1 κ hk2
        have hkc := hcst.kind hκ
        have er : (κ : Int) = kindN (decM (σ.ms m.toNat)) := by rw [← hm']; unfold kindN; rw [hk2]
        refine k_ifeq_b C dX1_decide_147 (tgt := 166) (by decide) (fun g1 => by cases g1) (fun g1 => ?_)
        refine k_aload_n C dX1_decide_150 rfl ?_
        refine k_getN C fn_X1_308 dX1_decide_151 (by assumption) (by rfl) ?_
        refine kx_V C rfl mv_X1_104 dX1_decide_154 ((c_opGet ek')) (by assumption) rfl rfl (Nat.le_of_ble_eq_true rfl) ⟨(Nat.le_of_ble_eq_true rfl), (Nat.le_of_ble_eq_true rfl)⟩ (by omega) (fun v kk hp_ => ?_) (fun _ _ hx => hx.elim)
        obtain ⟨rfl, rfl⟩ := hp_
        obtain rfl | rfl | rfl | rfl : κ = 0 ∨ κ = 1 ∨ κ = 2 ∨ κ = 3 := by omega
        · refine k_castO C ck_X1_255_17 dX1_decide_157 (by assumption) ?_
          refine kx_U C rfl mc_X1_312_17 q54 dX1_decide_160 ((c_ord17 hkc)) (by assumption) rfl rfl (Nat.le_of_ble_eq_true rfl) ⟨(Nat.le_of_ble_eq_true rfl), (Nat.le_of_ble_eq_true rfl)⟩ (by omega) (fun v kk hp_ => ?_) (fun _ _ hx => hx.elim)
          obtain ⟨rfl, rfl⟩ := hp_
          refine k_goto C dX1_decide_163 (tgt := 167) (by decide) ?_
          rw [er]
          exact k_iret C E dX1_decide_167 (by omega) ⟨rfl, rfl, st⟩
        · refine k_castO C ck_X1_255_18 dX1_decide_157 (by assumption) ?_
          refine kx_U C rfl mc_X1_312_18 q54 dX1_decide_160 ((c_ord18 hkc)) (by assumption) rfl rfl (Nat.le_of_ble_eq_true rfl) ⟨(Nat.le_of_ble_eq_true rfl), (Nat.le_of_ble_eq_true rfl)⟩ (by omega) (fun v kk hp_ => ?_) (fun _ _ hx => hx.elim)
          obtain ⟨rfl, rfl⟩ := hp_
          refine k_goto C dX1_decide_163 (tgt := 167) (by decide) ?_
          rw [er]
          exact k_iret C E dX1_decide_167 (by omega) ⟨rfl, rfl, st⟩
        · refine k_castO C ck_X1_255_19 dX1_decide_157 (by assumption) ?_
          refine kx_U C rfl mc_X1_312_19 q54 dX1_decide_160 ((c_ord19 hkc)) (by assumption) rfl rfl (Nat.le_of_ble_eq_true rfl) ⟨(Nat.le_of_ble_eq_true rfl), (Nat.le_of_ble_eq_true rfl)⟩ (by omega) (fun v kk hp_ => ?_) (fun _ _ hx => hx.elim)
          obtain ⟨rfl, rfl⟩ := hp_
          refine k_goto C dX1_decide_163 (tgt := 167) (by decide) ?_
          rw [er]
          exact k_iret C E dX1_decide_167 (by omega) ⟨rfl, rfl, st⟩
        · refine k_castO C ck_X1_255_20 dX1_decide_157 (by assumption) ?_
          refine kx_U C rfl mc_X1_312_20 q54 dX1_decide_160 ((c_ord20 hkc)) (by assumption) rfl rfl (Nat.le_of_ble_eq_true rfl) ⟨(Nat.le_of_ble_eq_true rfl), (Nat.le_of_ble_eq_true rfl)⟩ (by omega) (fun v kk hp_ => ?_) (fun _ _ hx => hx.elim)
          obtain ⟨rfl, rfl⟩ := hp_
          refine k_goto C dX1_decide_163 (tgt := 167) (by decide) ?_
          rw [er]
          exact k_iret C E dX1_decide_167 (by omega) ⟨rfl, rfl, st⟩
    refine k_istore C dX1_decide_56 (Nat.le_of_ble_eq_true rfl) rfl ?_
    refine k_aload_n C dX1_decide_58 rfl ?_
    refine kx_V C rfl mv_X1_305 dX1_decide_59 ((c_hasStopped W5 M5.2 hok.1 r1.1)) (by assumption) rfl rfl (Nat.le_of_ble_eq_true rfl) ⟨(Nat.le_of_ble_eq_true rfl), (Nat.le_of_ble_eq_true rfl)⟩ (by omega) (fun v k6 hp_ => ?_) (fun _ _ hx => hx.elim)
    obtain ⟨rfl, rfl⟩ := hp_
    have dm : ∀ (m' : Mch), (if stopB (σ.ms m.toNat).1 (runN (σ.ms m.toNat).1 500 c0) then ((σ.ms m.toNat).1, some 0, ((runN (σ.ms m.toNat).1 500 c0).n : Int), 0) else if cycNow (σ.ms m.toNat).1 30 ≠ -1 then ((σ.ms m.toNat).1, some 1, cycNow (σ.ms m.toNat).1 30 / 200, cycNow (σ.ms m.toNat).1 30 % 200) else if backNow (σ.ms m.toNat).1 ≠ -1 then ((σ.ms m.toNat).1, some 2, backNow (σ.ms m.toNat).1, 0) else if gramNow (σ.ms m.toNat).1 ≠ -1 then ((σ.ms m.toNat).1, some 3, gramNow (σ.ms m.toNat).1, 0) else (σ.ms m.toNat)) = m' → m' = decM (σ.ms m.toNat) := fun m' e => e.symm
    refine k_ifeq_b C dX1_decide_62 (tgt := 80) (by decide) (fun g3 => ?_) (fun g4 => ?_)
    · rw [show stopB (σ.ms m.toNat).1 (runN (σ.ms m.toNat).1 500 c0) = false from g3] at dm
      simp only [Bool.false_eq_true, if_false] at dm
      refine k_iload C dX1_decide_80 rfl ?_
      refine k_iconst C dX1_decide_82 ?_
      refine k_icmp_eq C dX1_decide_83 (tgt := 108) (by decide) (by omega) (fun g5 => ?_) (fun g6 => ?_)
      · simp only [g5, ne_eq, not_true_eq_false, if_false] at dm
        refine k_iload C dX1_decide_108 rfl ?_
        refine k_iconst C dX1_decide_110 ?_
        refine k_icmp_eq C dX1_decide_111 (tgt := 127) (by decide) (by omega) (fun g7 => ?_) (fun g8 => ?_)
        · simp only [g7, ne_eq, not_true_eq_false, if_false] at dm
          refine k_iload C dX1_decide_127 rfl ?_
          refine k_iconst C dX1_decide_129 ?_
          refine k_icmp_eq C dX1_decide_130 (tgt := 143) (by decide) (by omega) (fun g9 => ?_) (fun g10 => ?_)
          · simp only [g9, ne_eq, not_true_eq_false, if_false] at dm
            exact Wk.sub (by repeat (first | exact trivial | apply Lle.so | apply Lle.no)) (fin k6 _ _ (σ.ms m.toNat) (dm _ rfl) (by omega) (by omega) M5 ((Ext.refl _).upd _))
          · simp only [g10, ne_eq, not_false_eq_true, if_true] at dm
            refine k_aload_n C dX1_decide_133 rfl ?_
            refine k_gets (i0 := 4) C (by simp [stAll]) q298 dX1_decide_134 ?_
            refine k_iload C dX1_decide_137 rfl ?_
            refine k_iconst C dX1_decide_139 ?_
            refine kx_V C rfl mv_X1_286 dX1_decide_140 ((c_decideM (j := 3) M5)) (by assumption) rfl rfl (Nat.le_of_ble_eq_true rfl) ⟨(Nat.le_of_ble_eq_true rfl), (Nat.le_of_ble_eq_true rfl)⟩ (by omega) (fun v k7 hp_ => ?_) (fun _ _ hx => hx.elim)
            obtain ⟨rfl, M7, U7⟩ := hp_
            exact Wk.sub (by repeat (first | exact trivial | apply Lle.so | apply Lle.no)) (fin k7 _ _ _ (dm _ rfl) (by omega) (by omega) M7 U7)
        · simp only [g8, ne_eq, not_false_eq_true, if_true] at dm
          refine k_aload_n C dX1_decide_114 rfl ?_
          refine k_gets (i0 := 3) C (by simp [stAll]) q296 dX1_decide_115 ?_
          refine k_iload C dX1_decide_118 rfl ?_
          refine k_iconst C dX1_decide_120 ?_
          refine kx_V C rfl mv_X1_286 dX1_decide_121 ((c_decideM (j := 2) M5)) (by assumption) rfl rfl (Nat.le_of_ble_eq_true rfl) ⟨(Nat.le_of_ble_eq_true rfl), (Nat.le_of_ble_eq_true rfl)⟩ (by omega) (fun v k7 hp_ => ?_) (fun _ _ hx => hx.elim)
          obtain ⟨rfl, M7, U7⟩ := hp_
          refine k_goto C dX1_decide_124 (tgt := 143) (by decide) ?_
          exact Wk.sub (by repeat (first | exact trivial | apply Lle.so | apply Lle.no)) (fin k7 _ _ _ (dm _ rfl) (by omega) (by omega) M7 U7)
      · simp only [g6, ne_eq, not_false_eq_true, if_true] at dm
        refine k_aload_n C dX1_decide_86 rfl ?_
        refine k_gets (i0 := 2) C (by simp [stAll]) q294 dX1_decide_87 ?_
        refine k_iload C dX1_decide_90 rfl ?_
        refine k_sipush C dX1_decide_92 (by decide) ?_
        refine k_idiv C dX1_decide_95 (by omega) ?_
        refine k_iload C dX1_decide_96 rfl ?_
        refine k_sipush C dX1_decide_98 (by decide) ?_
        refine k_irem C dX1_decide_101 (by omega) ?_
        refine kx_V C rfl mv_X1_286 dX1_decide_102 ((c_decideM (j := 1) M5)) (by assumption) rfl rfl (Nat.le_of_ble_eq_true rfl) ⟨(Nat.le_of_ble_eq_true rfl), (Nat.le_of_ble_eq_true rfl)⟩ (by omega) (fun v k7 hp_ => ?_) (fun _ _ hx => hx.elim)
        obtain ⟨rfl, M7, U7⟩ := hp_
        refine k_goto C dX1_decide_105 (tgt := 143) (by decide) ?_
        exact Wk.sub (by repeat (first | exact trivial | apply Lle.so | apply Lle.no)) (fin k7 _ _ _ (dm _ rfl) (by omega) (by omega) M7 U7)
    · rw [show stopB (σ.ms m.toNat).1 (runN (σ.ms m.toNat).1 500 c0) = true from g4] at dm
      simp only [if_true] at dm
      refine k_aload_n C dX1_decide_65 rfl ?_
      refine k_gets (i0 := 1) C (by simp [stAll]) q163 dX1_decide_66 ?_
      refine k_aload_n C dX1_decide_69 rfl ?_
      refine k_getN C fn_X1_39 dX1_decide_70 (by assumption) (by rfl) ?_
      refine k_iconst C dX1_decide_73 ?_
      refine kx_V C rfl mv_X1_286 dX1_decide_74 ((c_decideM (j := 0) M5)) (by assumption) rfl rfl (Nat.le_of_ble_eq_true rfl) ⟨(Nat.le_of_ble_eq_true rfl), (Nat.le_of_ble_eq_true rfl)⟩ (by omega) (fun v k7 hp_ => ?_) (fun _ _ hx => hx.elim)
      obtain ⟨rfl, M7, U7⟩ := hp_
      refine k_goto C dX1_decide_77 (tgt := 143) (by decide) ?_
      exact Wk.sub (by repeat (first | exact trivial | apply Lle.so | apply Lle.no)) (fin k7 _ _ _ (dm _ rfl) (by omega) (by omega) M7 U7)
