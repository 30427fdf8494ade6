/-! ===== the least cycle ===== -/
set_option maxRecDepth 100000
def allN (p : Int → Bool) (a : Int) : Nat → Bool
  | 0 => true
  | k + 1 => allN p a k && p (a + k)
theorem allN_iff {p : Int → Bool} {a : Int} : ∀ k : Nat, allN p a k = true ↔ ∀ j : Int, a ≤ j → j < a + k → p j = true
  | 0 => ⟨fun _ j h0 h1 => absurd h1 (by omega), fun _ => rfl⟩
  | k + 1 => by
    unfold allN
    rw [Bool.and_eq_true, allN_iff k]
    constructor
    · intro ⟨h1, h2⟩ j j0 j1
      by_cases hj : j = a + k
      · rw [hj]; exact h2
      · exact h1 j j0 (by omega)
    · intro h
      exact ⟨fun j j0 j1 => h j j0 (by omega), h _ (by omega) (by omega)⟩
def cycB (T : Tb) (a b : Nat) : Bool := decide ((runN T (a + b) c0).n = a + b) && (decide ((runN T a c0).st = (runN T (a + b) c0).st) && allN (fun i => decide ((0 < (runN T (a + b) c0).pl - (runN T a c0).pl → loP T a b ≤ i) → ((runN T (a + b) c0).pl - (runN T a c0).pl < 0 → i ≤ hiP T a b) → (runN T a c0).tp i = (runN T (a + b) c0).tp (i + ((runN T (a + b) c0).pl - (runN T a c0).pl)))) (-(2 * (a + b : Nat) : Int)) (4 * (a + b) + 1))
theorem cycB_iff {T : Tb} (hT : TbOk T) {a b : Nat} : cycB T a b = true ↔ cycP T a b := by
  have r1 := runN_c0 hT a
  have r2 := runN_c0 hT (a + b)
  have l1 := loP_b hT a b
  have l2 := hiP_b hT a b
  unfold cycB cycP againP
  rw [Bool.and_eq_true, Bool.and_eq_true, decide_eq_true_iff, decide_eq_true_iff, allN_iff]
  generalize hc : runN T a c0 = c at *
  generalize hd : runN T (a + b) c0 = d at *
  obtain ⟨⟨-, ⟨c3, c4, c5, c6, c7, c8⟩, c9, c10⟩, c11⟩ := r1
  obtain ⟨⟨-, ⟨d3, d4, d5, d6, d7, d8⟩, d9, d10⟩, d11⟩ := r2
  constructor
  · intro ⟨h1, h2, h3⟩
    refine ⟨h1, h2, fun i i1 i2 => ?_⟩
    by_cases hi : -(2 * (a + b : Nat) : Int) ≤ i ∧ i < -(2 * (a + b : Nat) : Int) + ((4 * (a + b) + 1 : Nat) : Int)
    · exact of_decide_eq_true (h3 i hi.1 hi.2) i1 i2
    · rw [c10 i (by omega), d10 _ (by omega)]
  · intro ⟨h1, h2, h3⟩
    exact ⟨h1, h2, fun i _ _ => decide_eq_true (fun i1 i2 => h3 i i1 i2)⟩
def fnd {α : Type} (f : Nat → Option α) (i : Nat) : Nat → Option α
  | 0 => none
  | d + 1 => match f i with
    | some x => some x
    | none => fnd f (i + 1) d
theorem fnd_none {α : Type} {f : Nat → Option α} {i d : Nat} (h : f i = none) : fnd f i (d + 1) = fnd f (i + 1) d := by rw [fnd, h]
theorem fnd_some {α : Type} {f : Nat → Option α} {i d : Nat} {x : α} (h : f i = some x) : fnd f i (d + 1) = some x := by rw [fnd, h]
def cycA (T : Tb) (e a : Nat) : Option Int := if cycB T a (e - a) then some (200 * a + e - a) else none
def cycE (T : Tb) (e : Nat) : Option Int := fnd (cycA T e) 0 e
/-- the least cycle within b steps; -1 without one -/
def cycNow (T : Tb) (b : Nat) : Int := (fnd (cycE T) 1 (runN T b c0).n).getD (-1)
theorem c_isCycle {w : Wd} {h : Hp} {l ar N cap b a e tp : Nat} {T : Tb} {f : Int → Option Nat} (hT : TbOk T) (hb : b < 900) (A : isAL w h l ar N cap f) (S : isLs h T b N tp f) (ha : a ≤ e) (he : e < N) (hN : N ≤ b + 1) (hn : (runN T e c0).n = e) : Ct w yX1_isCycle (ws_ yX1_isCycle cX1_isCycle 6 (some FieldType.boolean)) 3 64 0 0 [.ref l, jI (a : Nat), jI (e : Nat)] h (fun v h' => v = some (jI (b2i (cycB T a (e - a)))) ∧ h' = h) NoX := by
  have l1 := A.1
  refine Ct.of (by decide) [some (.ref l), some (jI (a : Nat)), some (jI (e : Nat)), none, none, none] rfl (Nat.le_of_ble_eq_true rfl) (fun K C E N0 => ?_)
  obtain ⟨oa, ta, fa, La, -⟩ := S a (by omega)
  obtain ⟨oe, te, fe, Le, -⟩ := S e (by omega)
  have La1 := La.1
  have Le1 := Le.1
  have ra := runN_c0 hT a
  have re := runN_c0 hT e
  refine k_aload_n C dX1_isCycle_0 rfl ?_
  refine k_iload_n C dX1_isCycle_1 rfl ?_
  refine kx_F C rfl mf_X1_60 dX1_isCycle_2 ((c_get A (by omega) fa)) (by assumption) rfl rfl (Nat.le_of_ble_eq_true rfl) ⟨(Nat.le_of_ble_eq_true rfl), (Nat.le_of_ble_eq_true rfl)⟩ (by omega) (fun v kk hp_ => ?_) (fun _ _ hx => hx.elim)
  obtain ⟨rfl, rfl⟩ := hp_
  refine k_castO C ck_X1_13_10 dX1_isCycle_7 (by assumption) ?_
  refine k_getN C fn_X1_64 dX1_isCycle_10 (by assumption) (by rfl) ?_
  refine k_istore_n C dX1_isCycle_13 (Nat.le_of_ble_eq_true rfl) rfl ?_
  refine k_iload_n C dX1_isCycle_14 rfl ?_
  refine k_istore C dX1_isCycle_15 (Nat.le_of_ble_eq_true rfl) rfl ?_
  refine k_iload_n C dX1_isCycle_17 rfl ?_
  refine k_istore C dX1_isCycle_18 (Nat.le_of_ble_eq_true rfl) rfl ?_
  have loop : ∀ (d i : Nat), i + d = e + 1 → a ≤ i → Wk w K kk 0 0 20 [some (.ref l), some (jI (a : Nat)), some (jI (e : Nat)), some (jI (loP T a (i - a - 1))), some (jI (hiP T a (i - a - 1))), some (jI (i : Nat))] [] := by
    intro d
    induction d with
    | zero =>
      intro i hi h1
      have b1 := loP_b hT a (i - a - 1)
      have b2 := hiP_b hT a (i - a - 1)
      refine k_iload C dX1_isCycle_20 rfl ?_
      refine k_iload_n C dX1_isCycle_22 rfl ?_
      refine k_icmp_gt C dX1_isCycle_23 (tgt := 72) (by decide) (by omega) (fun g1 => ?_) (fun g2 => ?_)
      · refine k_aload_n C dX1_isCycle_72 rfl ?_
        refine k_iload_n C dX1_isCycle_73 rfl ?_
        refine kx_F C rfl mf_X1_60 dX1_isCycle_74 ((c_get A (by omega) fa)) (by assumption) rfl rfl (Nat.le_of_ble_eq_true rfl) ⟨(Nat.le_of_ble_eq_true rfl), (Nat.le_of_ble_eq_true rfl)⟩ (by omega) (fun v kk hp_ => ?_) (fun _ _ hx => hx.elim)
        obtain ⟨rfl, rfl⟩ := hp_
        refine k_castO C ck_X1_13_10 dX1_isCycle_79 (by assumption) ?_
        refine k_aload_n C dX1_isCycle_82 rfl ?_
        refine k_iload_n C dX1_isCycle_83 rfl ?_
        refine kx_F C rfl mf_X1_60 dX1_isCycle_84 ((c_get A (by omega) fe)) (by assumption) rfl rfl (Nat.le_of_ble_eq_true rfl) ⟨(Nat.le_of_ble_eq_true rfl), (Nat.le_of_ble_eq_true rfl)⟩ (by omega) (fun v kk hp_ => ?_) (fun _ _ hx => hx.elim)
        obtain ⟨rfl, rfl⟩ := hp_
        refine k_castO C ck_X1_13_10 dX1_isCycle_89 (by assumption) ?_
        refine k_iload_n C dX1_isCycle_92 rfl ?_
        refine k_iload C dX1_isCycle_93 rfl ?_
        refine kx_V C rfl mv_X1_42 dX1_isCycle_95 ((c_comesAgain hT (by omega) ⟨ta, La⟩ ⟨te, Le⟩ ra.1 re.1 (by omega) (by omega) (by omega))) (by assumption) rfl rfl (Nat.le_of_ble_eq_true rfl) ⟨(Nat.le_of_ble_eq_true rfl), (Nat.le_of_ble_eq_true rfl)⟩ (by omega) (fun v kk hp_ => ?_) (fun _ _ hx => hx.elim)
        obtain ⟨x, rfl, hx, rfl⟩ := hp_
        have ex : cycB T a (e - a) = x := by
          have h2 := cycB_iff hT (a := a) (b := e - a)
          unfold cycP at h2
          rw [show a + (e - a) = e by omega] at h2
          rw [show i - a - 1 = e - a by omega] at hx
          cases x with
          | true => exact h2.mpr ⟨hn, hx.mp rfl⟩
          | false =>
            cases hcy : cycB T a (e - a) with
            | false => rfl
            | true => exact absurd (hx.mpr (h2.mp hcy).2) (by decide)
        exact k_zret (b := x) C E dX1_isCycle_98 (by omega) ⟨by rw [ex], rfl⟩
      · omega
    | succ d ih =>
      intro i hi h1
      have b1 := loP_b hT a (i - a - 1)
      have b2 := hiP_b hT a (i - a - 1)
      obtain ⟨oi, ti, fi, Li, -⟩ := S i (by omega)
      have Li1 := Li.1
      have ri := runN_c0 hT i
      obtain ⟨⟨-, ⟨c3, c4, c5, c6, c7, c8⟩, c9, c10⟩, c11⟩ := id ri
      have e1 : min (loP T a (i - a - 1)) (runN T i c0).pl = loP T a (i + 1 - a - 1) := by
        by_cases hia : i = a
        · subst hia; rw [show i - i - 1 = 0 by omega, show i + 1 - i - 1 = 0 by omega]; unfold loP; omega
        · obtain ⟨j, hj⟩ : ∃ j, i = a + (j + 1) := ⟨i - a - 1, by omega⟩
          subst hj
          rw [show a + (j + 1) - a - 1 = j by omega, show a + (j + 1) + 1 - a - 1 = j + 1 by omega]; rfl
      have e2 : max (hiP T a (i - a - 1)) (runN T i c0).pl = hiP T a (i + 1 - a - 1) := by
        by_cases hia : i = a
        · subst hia; rw [show i - i - 1 = 0 by omega, show i + 1 - i - 1 = 0 by omega]; unfold hiP; omega
        · obtain ⟨j, hj⟩ : ∃ j, i = a + (j + 1) := ⟨i - a - 1, by omega⟩
          subst hj
          rw [show a + (j + 1) - a - 1 = j by omega, show a + (j + 1) + 1 - a - 1 = j + 1 by omega]; rfl
      refine k_iload C dX1_isCycle_20 rfl ?_
      refine k_iload_n C dX1_isCycle_22 rfl ?_
      refine k_icmp_gt C dX1_isCycle_23 (tgt := 72) (by decide) (by omega) (fun g1 => ?_) (fun g2 => ?_)
      · omega
      · refine k_iload_n C dX1_isCycle_26 rfl ?_
        refine k_aload_n C dX1_isCycle_27 rfl ?_
        refine k_iload C dX1_isCycle_28 rfl ?_
        refine kx_F C rfl mf_X1_60 dX1_isCycle_30 ((c_get A (by omega) fi)) (by assumption) rfl rfl (Nat.le_of_ble_eq_true rfl) ⟨(Nat.le_of_ble_eq_true rfl), (Nat.le_of_ble_eq_true rfl)⟩ (by omega) (fun v kk hp_ => ?_) (fun _ _ hx => hx.elim)
        obtain ⟨rfl, rfl⟩ := hp_
        refine k_castO C ck_X1_13_10 dX1_isCycle_35 (by assumption) ?_
        refine k_getN C fn_X1_64 dX1_isCycle_38 (by assumption) (by rfl) ?_
        refine k_min C rfl q562 dX1_isCycle_41 (by omega) ⟨(Nat.le_of_ble_eq_true rfl), (Nat.le_of_ble_eq_true rfl)⟩ (by omega) ?_
        refine k_istore_n C dX1_isCycle_44 (Nat.le_of_ble_eq_true rfl) rfl ?_
        refine k_iload C dX1_isCycle_45 rfl ?_
        refine k_aload_n C dX1_isCycle_47 rfl ?_
        refine k_iload C dX1_isCycle_48 rfl ?_
        refine kx_F C rfl mf_X1_60 dX1_isCycle_50 ((c_get A (by omega) fi)) (by assumption) rfl rfl (Nat.le_of_ble_eq_true rfl) ⟨(Nat.le_of_ble_eq_true rfl), (Nat.le_of_ble_eq_true rfl)⟩ (by omega) (fun v kk hp_ => ?_) (fun _ _ hx => hx.elim)
        obtain ⟨rfl, rfl⟩ := hp_
        refine k_castO C ck_X1_13_10 dX1_isCycle_55 (by assumption) ?_
        refine k_getN C fn_X1_64 dX1_isCycle_58 (by assumption) (by rfl) ?_
        refine k_max C rfl q439 dX1_isCycle_61 (by omega) ⟨(Nat.le_of_ble_eq_true rfl), (Nat.le_of_ble_eq_true rfl)⟩ (by omega) ?_
        refine k_istore C dX1_isCycle_64 (Nat.le_of_ble_eq_true rfl) rfl ?_
        refine k_iinc C dX1_isCycle_66 rfl rfl ?_
        refine k_goto C dX1_isCycle_69 (tgt := 20) (by decide) ?_
        rw [e1, e2]
        exact ih (i + 1) (by omega) (by omega)
  have z := loop (e + 1 - a) a (by omega) (by omega)
  rw [show a - a - 1 = 0 by omega] at z
  exact z
theorem c_cycleNow {w : Wd} {h : Hp} {t lst ar0 b : Nat} {T : Tb} (G : isTb w h t lst ar0 T) (hT : TbOk T) (hb : b < 900) : Ct w yX1_cycleNow (ws_ yX1_cycleNow cX1_cycleNow 5 (some FieldType.int)) 9 234 (lkC b) (lkS b) [.ref t, jI (b : Nat)] h (fun v h' => v = some (jI (cycNow T b)) ∧ Ext h h') NoX := by
  have rb := runN_c0 hT b
  refine Ct.of (by decide) [some (.ref t), some (jI (b : Nat)), none, none, none] rfl (Nat.le_of_ble_eq_true rfl) (fun K C E N0 => ?_)
  refine k_aload_n C dX1_cycleNow_0 rfl ?_
  refine k_iload_n C dX1_cycleNow_1 rfl ?_
  refine kx_S C rfl ms_X1_65 dX1_cycleNow_2 ((c_looks G hT hb)) rfl rfl (Nat.le_of_ble_eq_true rfl) ⟨(Nat.le_of_ble_eq_true rfl), (Nat.le_of_ble_eq_true rfl)⟩ (by omega) (fun v h1 hp_ => ?_) (fun _ _ hx => hx.elim)
  obtain ⟨l, ar, f, tp, rfl, A, S, E1⟩ := hp_
  have l1 := A.1
  refine k_astore_n C dX1_cycleNow_5 (Nat.le_of_ble_eq_true rfl) rfl ?_
  refine k_iconst C dX1_cycleNow_6 ?_
  refine k_istore_n C dX1_cycleNow_7 (Nat.le_of_ble_eq_true rfl) rfl ?_
  have outer : ∀ (d e : Nat) (x4 : Option Value), e + d = (runN T b c0).n + 1 → 1 ≤ e → (fnd (cycE T) e d).getD (-1) = cycNow T b → Wk w K h1 (lkC b) (lkS b) 8 [some (.ref t), some (jI (b : Nat)), some (.ref l), some (jI (e : Nat)), x4] [] := by
    intro d
    induction d with
    | zero =>
      intro e x4 hi h1' h2
      refine k_iload_n C dX1_cycleNow_8 rfl ?_
      refine k_aload_n C dX1_cycleNow_9 rfl ?_
      refine kx_F C rfl mf_X1_56 dX1_cycleNow_10 ((c_size l1)) (by assumption) rfl rfl (Nat.le_of_ble_eq_true rfl) ⟨(Nat.le_of_ble_eq_true rfl), (Nat.le_of_ble_eq_true rfl)⟩ (by omega) (fun v kk hp_ => ?_) (fun _ _ hx => hx.elim)
      obtain ⟨rfl, rfl⟩ := hp_
      refine k_icmp_ge C dX1_cycleNow_15 (tgt := 61) (by decide) (by omega) (fun g1 => ?_) (fun g2 => ?_)
      · refine k_iconst C dX1_cycleNow_61 ?_
        rw [show (-1 : Int) = cycNow T b from h2]
        exact k_iret C E dX1_cycleNow_62 (by omega) ⟨rfl, E1⟩
      · omega
    | succ d ih =>
      intro e x4 hi h1' h2
      refine k_iload_n C dX1_cycleNow_8 rfl ?_
      refine k_aload_n C dX1_cycleNow_9 rfl ?_
      refine kx_F C rfl mf_X1_56 dX1_cycleNow_10 ((c_size l1)) (by assumption) rfl rfl (Nat.le_of_ble_eq_true rfl) ⟨(Nat.le_of_ble_eq_true rfl), (Nat.le_of_ble_eq_true rfl)⟩ (by omega) (fun v kk hp_ => ?_) (fun _ _ hx => hx.elim)
      obtain ⟨rfl, rfl⟩ := hp_
      refine k_icmp_ge C dX1_cycleNow_15 (tgt := 61) (by decide) (by omega) (fun g1 => ?_) (fun g2 => ?_)
      · omega
      · have he := runN_full (T := T) (k := e) (m := b) (by omega)
        have inner : ∀ (d' a : Nat), a + d' = e → fnd (cycA T e) a d' = cycE T e → Wk w K kk (lkC b) (lkS b) 21 [some (.ref t), some (jI (b : Nat)), some (.ref l), some (jI (e : Nat)), some (jI (a : Nat))] [] := by
          intro d'
          induction d' with
          | zero =>
            intro a ha h3
            refine k_iload C dX1_cycleNow_21 rfl ?_
            refine k_iload_n C dX1_cycleNow_23 rfl ?_
            refine k_icmp_ge C dX1_cycleNow_24 (tgt := 55) (by decide) (by omega) (fun g3 => ?_) (fun g4 => ?_)
            · refine k_iinc C dX1_cycleNow_55 rfl rfl ?_
              refine k_goto C dX1_cycleNow_58 (tgt := 8) (by decide) ?_
              rw [fnd_none h3.symm] at h2
              exact ih (e + 1) _ (by omega) (by omega) h2
            · omega
          | succ d' ih' =>
            intro a ha h3
            refine k_iload C dX1_cycleNow_21 rfl ?_
            refine k_iload_n C dX1_cycleNow_23 rfl ?_
            refine k_icmp_ge C dX1_cycleNow_24 (tgt := 55) (by decide) (by omega) (fun g3 => ?_) (fun g4 => ?_)
            · omega
            · refine k_aload_n C dX1_cycleNow_27 rfl ?_
              refine k_iload C dX1_cycleNow_28 rfl ?_
              refine k_iload_n C dX1_cycleNow_30 rfl ?_
              refine kx_S C rfl ms_X1_69 dX1_cycleNow_31 ((c_isCycle hT hb A S (by omega) (by omega) (by omega) he)) rfl rfl (Nat.le_of_ble_eq_true rfl) ⟨(Nat.le_of_ble_eq_true rfl), (Nat.le_of_ble_eq_true rfl)⟩ (by omega) (fun v kk hp_ => ?_) (fun _ _ hx => hx.elim)
              obtain ⟨rfl, rfl⟩ := hp_
              refine k_ifeq_b C dX1_cycleNow_34 (tgt := 49) (by decide) (fun g5 => ?_) (fun g6 => ?_)
              · refine k_iinc C dX1_cycleNow_49 rfl rfl ?_
                refine k_goto C dX1_cycleNow_52 (tgt := 21) (by decide) ?_
                rw [fnd_none (by unfold cycA; rw [g5]; rfl)] at h3
                exact ih' (a + 1) (by omega) h3
              · rw [fnd_some (by unfold cycA; rw [g6]; rfl)] at h3
                rw [fnd_some h3.symm] at h2
                refine k_sipush C dX1_cycleNow_37 (by decide) ?_
                refine k_iload C dX1_cycleNow_40 rfl ?_
                refine k_imul C dX1_cycleNow_42 ?_
                refine k_iload_n C dX1_cycleNow_43 rfl ?_
                refine k_iadd C dX1_cycleNow_44 ?_
                refine k_iload C dX1_cycleNow_45 rfl ?_
                refine k_isub C dX1_cycleNow_47 ?_
                rw [show (200 * (a : Int) + e - a) = cycNow T b from h2]
                exact k_iret C E dX1_cycleNow_48 (by omega) ⟨rfl, E1⟩
        refine k_iconst C dX1_cycleNow_18 ?_
        refine k_istore C dX1_cycleNow_19 (Nat.le_of_ble_eq_true rfl) rfl ?_
        exact inner e 0 (by omega) rfl
  exact Wk.widen (n' := lkC b) (k' := lkS b) (by omega) (by omega) (outer _ 1 _ (by omega) (by omega) rfl)
