/-! ===== walking: the plain model, and the component's Walker ===== -/
set_option maxRecDepth 100000
/-- a machine on its way: its tape, state, place, least, greatest, steps -/
abbrev Cf : Type := (Int → Int) × Int × Int × Int × Int × Nat
abbrev Cf.tp (c : Cf) : Int → Int := c.1
abbrev Cf.st (c : Cf) : Int := c.2.1
abbrev Cf.pl (c : Cf) : Int := c.2.2.1
abbrev Cf.le (c : Cf) : Int := c.2.2.2.1
abbrev Cf.gr (c : Cf) : Int := c.2.2.2.2.1
abbrev Cf.n (c : Cf) : Nat := c.2.2.2.2.2
theorem Upd.sub {a b : Hp} {S T : List Nat} (U : Upd a b S) (h : ∀ x ∈ S, x ∈ T) : Upd a b T := ⟨U.1, fun q c e hq => U.2 q c e (fun z => hq (h q z))⟩
def c0 : Cf := (fun _ => 0, 0, 0, 0, 0, 0)
/-- the rule that is next -/
def nxt (T : Tb) (c : Cf) : Option Ru := if c.st = T.1 then none else T.2 (2 * c.st + c.tp c.pl)
def adv (c : Cf) (r : Ru) : Cf := (up c.tp c.pl r.1, r.2.2, c.pl + r.2.1, min c.le (c.pl + r.2.1), max c.gr (c.pl + r.2.1), c.n + 1)
def runN (T : Tb) : Nat → Cf → Cf
  | 0, c => c
  | n + 1, c => match nxt T c with
    | none => c
    | some r => runN T n (adv c r)
def CfOk (T : Tb) (c : Cf) : Prop := (0 ≤ c.st ∧ c.st ≤ T.1) ∧ (c.le ≤ 0 ∧ 0 ≤ c.gr ∧ c.le ≤ c.pl ∧ c.pl ≤ c.gr ∧ -(c.n : Int) ≤ c.le ∧ c.gr ≤ c.n) ∧ (∀ j, c.tp j = 0 ∨ c.tp j = 1) ∧ ∀ j, j < c.le ∨ c.gr < j → c.tp j = 0
theorem c0_ok {T : Tb} : CfOk T c0 := ⟨⟨Int.le_refl _, by show (0 : Int) ≤ (T.1 : Int); omega⟩, ⟨Int.le_refl _, Int.le_refl _, Int.le_refl _, Int.le_refl _, Int.le_refl _, Int.le_refl _⟩, fun _ => Or.inl rfl, fun _ _ => rfl⟩
theorem nxt_some {T : Tb} {c : Cf} {r : Ru} (h : nxt T c = some r) : c.st ≠ T.1 ∧ T.2 (2 * c.st + c.tp c.pl) = some r := by
  unfold nxt at h
  split at h
  · cases h
  · exact ⟨by assumption, h⟩
theorem CfOk.cell {T : Tb} {c : Cf} (H : CfOk T c) (hs : c.st ≠ T.1) : 0 ≤ 2 * c.st + c.tp c.pl ∧ 2 * c.st + c.tp c.pl < ((2 * T.1 : Nat) : Int) := by
  obtain ⟨⟨h1, h2⟩, -, h3, -⟩ := H
  have := h3 c.pl
  omega
theorem CfOk.rule {T : Tb} {c : Cf} {r : Ru} (hT : TbOk T) (H : CfOk T c) (h : nxt T c = some r) : RuOk T.1 r := by
  obtain ⟨h1, h2⟩ := nxt_some h
  have h3 := H.cell h1
  exact hT.2.2 _ r h3.1 (by omega) h2
theorem adv_ok {T : Tb} {c : Cf} {r : Ru} (hT : TbOk T) (H : CfOk T c) (h : nxt T c = some r) : CfOk T (adv c r) := by
  have hr := H.rule hT h
  obtain ⟨r1, r2, r3, r4⟩ := hr
  obtain ⟨⟨h1, h2⟩, ⟨h3, h4, h5, h6, h7, h8⟩, h9, h10⟩ := H
  obtain ⟨tp, st, pl, le, gr, n⟩ := c
  obtain ⟨ra, rb, rc⟩ := r
  simp only [Cf.st, Cf.le, Cf.gr, Cf.pl, Cf.n, Cf.tp] at *
  unfold adv CfOk
  simp only [Cf.st, Cf.le, Cf.gr, Cf.pl, Cf.n, Cf.tp] at *
  refine ⟨⟨r3, r4⟩, ⟨by omega, by omega, by omega, by omega, by omega, by omega⟩, fun j => ?_, fun j hj => ?_⟩
  · unfold up; split
    · exact r1
    · exact h9 j
  · unfold up; split
    · omega
    · exact h10 j (by omega)
theorem runN_ok {T : Tb} (hT : TbOk T) : ∀ (n : Nat) (c : Cf), CfOk T c → CfOk T (runN T n c)
  | 0, c, H => H
  | n + 1, c, H => by
    unfold runN
    cases h : nxt T c with
    | none => exact H
    | some r => exact runN_ok hT n _ (adv_ok hT H h)
theorem runN_stop {T : Tb} {n : Nat} {c : Cf} (h : nxt T c = none) : runN T n c = c := by
  cases n with
  | zero => rfl
  | succ n => unfold runN; rw [h]
theorem runN_go {T : Tb} {n : Nat} {c : Cf} {r : Ru} (h : nxt T c = some r) : runN T (n + 1) c = runN T n (adv c r) := by
  rw [runN, h]
theorem runN_add {T : Tb} : ∀ (n m : Nat) (c : Cf), runN T (n + m) c = runN T m (runN T n c)
  | 0, m, c => by rw [Nat.zero_add]; rfl
  | n + 1, m, c => by
    cases h : nxt T c with
    | none => rw [runN_stop h, runN_stop h, runN_stop h]
    | some r => rw [show n + 1 + m = (n + m) + 1 by omega, runN_go h, runN_go h, runN_add n m]
/-- how many steps were done: all, or the machine is at an end -/
theorem runN_n {T : Tb} : ∀ (n : Nat) (c : Cf), (runN T n c).n ≤ c.n + n ∧ c.n ≤ (runN T n c).n ∧ ((runN T n c).n < c.n + n → nxt T (runN T n c) = none)
  | 0, c => ⟨Nat.le_refl _, Nat.le_refl _, fun h => absurd h (Nat.lt_irrefl _)⟩
  | n + 1, c => by
    cases h : nxt T c with
    | none => rw [runN_stop h]; exact ⟨by omega, by omega, fun _ => h⟩
    | some r =>
      rw [runN_go h]
      have e : (adv c r).n = c.n + 1 := rfl
      obtain ⟨i1, i2, i3⟩ := runN_n n (adv c r)
      exact ⟨by omega, by omega, fun q => i3 (by omega)⟩
/-- f over k places from a on -/
def sumF (f : Int → Int) (a : Int) : Nat → Int
  | 0 => 0
  | k + 1 => sumF f a k + f (a + k)
theorem sumF_b {f : Int → Int} (h : ∀ j, f j = 0 ∨ f j = 1) (a : Int) : ∀ k : Nat, 0 ≤ sumF f a k ∧ sumF f a k ≤ k
  | 0 => ⟨Int.le_refl _, Int.le_refl _⟩
  | k + 1 => by
    have := sumF_b h a k
    have := h (a + k)
    unfold sumF
    omega
theorem sumF_add (f : Int → Int) (a : Int) (k : Nat) : ∀ m : Nat, sumF f a (k + m) = sumF f a k + sumF f (a + k) m
  | 0 => by show sumF f a k = sumF f a k + 0; omega
  | m + 1 => by
    have := sumF_add f a k m
    show sumF f a (k + m) + f (a + (k + m : Nat)) = sumF f a k + (sumF f (a + k) m + f (a + k + m))
    rw [this, show a + ((k + m : Nat) : Int) = a + k + m by omega]
    omega
theorem sumF_zero {f : Int → Int} {a : Int} : ∀ k : Nat, (∀ j, a ≤ j → j < a + k → f j = 0) → sumF f a k = 0
  | 0, _ => rfl
  | k + 1, h => by
    unfold sumF
    rw [sumF_zero k (fun j j0 j1 => h j j0 (by omega)), h (a + k) (by omega) (by omega)]
    rfl
theorem sumF_congr {f g : Int → Int} {a b : Int} : ∀ k : Nat, (∀ j : Nat, j < k → f (a + j) = g (b + j)) → sumF f a k = sumF g b k
  | 0, _ => rfl
  | k + 1, h => by
    unfold sumF
    rw [sumF_congr k (fun j hj => h j (by omega)), h k (by omega)]
/-- how many ones -/
def onesC (c : Cf) : Int := sumF c.tp c.le (c.gr - c.le + 1).toNat
/-- how many rows of like symbols -/
def runsC (c : Cf) : Int := 1 + sumF (fun j => if c.tp j = c.tp (j - 1) then 0 else 1) (c.le + 1) (c.gr - c.le).toNat
theorem onesC_wide {T : Tb} {c : Cf} (H : CfOk T c) {R : Nat} (hR : c.n ≤ R) : sumF c.tp (-(R : Int)) (2 * R + 1) = onesC c := by
  obtain ⟨-, ⟨h3, h4, h5, h6, h7, h8⟩, h9, h10⟩ := H
  have e : 2 * R + 1 = (c.le + R).toNat + ((c.gr - c.le + 1).toNat + (R - c.gr).toNat) := by omega
  rw [e, sumF_add, sumF_add, sumF_zero _ (fun j j0 j1 => h10 j (by omega)), sumF_zero (R - c.gr).toNat (fun j j0 j1 => h10 j (by omega))]
  rw [show -(R : Int) + ((c.le + R).toNat : Int) = c.le by omega]
  unfold onesC
  omega
theorem onesC_b {T : Tb} {c : Cf} (H : CfOk T c) : 0 ≤ onesC c ∧ onesC c ≤ 2 * c.n + 1 := by
  obtain ⟨-, ⟨h3, h4, h5, h6, h7, h8⟩, h9, h10⟩ := H
  have := sumF_b h9 c.le (c.gr - c.le + 1).toNat
  unfold onesC
  omega
/-- what is told of a walk -/
def toldC (c : Cf) (what : Int) : Int := if what = 0 then c.n else if what = 1 then c.st else if what = 2 then c.pl else if what = 3 then onesC c else if what = 4 then runsC c else if what = 5 then c.le else c.gr
/-! ### the component's walker: its address a, its table at t, its tape at tp, R places to each side -/
def shf (R : Nat) (f : Int → Int) : Int → Int := fun j => f (j - R)
theorem shf_up (R : Nat) (f : Int → Int) (i x : Int) : up (shf R f) (R + i) x = shf R (up f i x) := by
  funext j
  unfold up shf
  dsimp only
  by_cases hj : j = R + i
  · rw [if_pos hj, if_pos (by omega)]
  · rw [if_neg hj, if_neg (by omega)]
def isWk (h : Hp) (a t tp R : Nat) (c : Cf) : Prop := h.2 a = some (.inl (7, [.ref t, jI (R : Nat), .ref tp, jI c.st, jI c.pl, jI c.le, jI c.gr, jI (c.n : Nat)])) ∧ h.2 tp = some (aI 0 (2 * R + 1) (shf R c.tp))
theorem isWk.ne {h : Hp} {a t tp R : Nat} {c : Cf} (H : isWk h a t tp R c) {q : Nat} {d : Cel} (hq : h.2 q = some d) (h1 : ∀ x : List Value, d ≠ .inl (7, x)) (h2 : ∀ (x : Nat) (y : Nat → Value), d ≠ .inr (0, x, y)) : q ≠ a ∧ q ≠ tp :=
  ⟨fun e => h1 _ (Option.some.inj (by rw [← hq, e]; exact H.1)), fun e => h2 _ _ (Option.some.inj (by rw [← hq, e]; exact H.2))⟩
theorem isWk.upd {h h' : Hp} {a t tp R : Nat} {c : Cf} {S : List Nat} (U : Upd h h' S) (h1 : a ∉ S) (h2 : tp ∉ S) (H : isWk h a t tp R c) : isWk h' a t tp R c := ⟨U.2 _ _ H.1 h1, U.2 _ _ H.2 h2⟩
theorem isWk.ext {h h' : Hp} {a t tp R : Nat} {c : Cf} (U : Ext h h') (H : isWk h a t tp R c) : isWk h' a t tp R c := ⟨U.2 _ _ H.1, U.2 _ _ H.2⟩
theorem isTb.upd {w : Wd} {h h' : Hp} {t lst ar : Nat} {T : Tb} {S : List Nat} (U : Upd h h' S) (hS : ∀ q ∈ S, (∃ x, h.2 q = none ∨ h.2 q = some (.inl (7, x)))  ∨ ∃ n x, h.2 q = some (.inr (0, n, x))) (H : isTb w h t lst ar T) : isTb w h' t lst ar T := by
  have key : ∀ (q : Nat) (d : Cel), h.2 q = some d → (∀ x : List Value, d ≠ .inl (7, x)) → (∀ (x : Nat) (y : Nat → Value), d ≠ .inr (0, x, y)) → h'.2 q = some d := fun q d e h1 h2 => U.2 q d e (fun hq => by
    rcases hS q hq with ⟨x, e2 | e2⟩ | ⟨n, x, e2⟩
    · rw [e] at e2; cases e2
    · rw [e] at e2; exact h1 x (Option.some.inj e2)
    · rw [e] at e2; exact h2 n x (Option.some.inj e2))
  obtain ⟨h1, f, ⟨h2, h3, h4⟩, h5⟩ := H
  refine ⟨key _ _ h1 (fun x e => by cases e) (fun x y e => by cases e), f, ⟨key _ _ h2 (fun x e => by cases e) (fun x y e => by cases e), key _ _ h3 (fun x e => by cases e) (fun x y e => by cases e), h4⟩, fun k k0 k1 => ?_⟩
  obtain ⟨o, e1, e2⟩ := h5 k k0 k1
  refine ⟨o, e1, ?_⟩
  cases hr : T.2 k with
  | none =>
    rw [hr] at e2
    exact key _ _ e2 (fun x e => by cases e) (fun x y e => by cases e)
  | some r =>
    rw [hr] at e2
    obtain ⟨b, e3, e4⟩ := e2
    exact ⟨b, key _ _ e3 (fun x e => by cases e) (fun x y e => by cases e), key _ _ e4 (fun x e => by cases e) (fun x y e => by cases e)⟩
theorem isTb.wk {w : Wd} {h h' : Hp} {t lst ar : Nat} {T : Tb} {a tp R t2 : Nat} {c : Cf} (U : Upd h h' [a, tp]) (W : isWk h a t2 tp R c) (H : isTb w h t lst ar T) : isTb w h' t lst ar T := H.upd U (fun q hq => by
  have hq' : q = a ∨ q = tp := by simpa using hq
  rcases hq' with e | e
  · exact Or.inl ⟨_, Or.inr (by rw [e]; exact W.1)⟩
  · exact Or.inr ⟨_, _, by rw [e]; exact W.2⟩)
theorem c_wkInit {w : Wd} {h : Hp} {a t R : Nat} (hR : R < 1000) (ha : h.2 a = some (.inl (7, [.null, jI 0, .null, jI 0, jI 0, jI 0, jI 0, jI 0]))) : Ct w yX8_init (ws_ yX8_init cX8_init 3 none) 1 40 1 (2 * R + 1) [.ref a, .ref t, jI (R : Nat)] h (fun v h' => v = none ∧ ∃ tp, h.2 tp = none ∧ isWk h' a t tp R c0 ∧ Upd h h' [a]) NoX := by
  refine Ct.of (by decide) [some (.ref a), some (.ref t), some (jI (R : Nat))] rfl (Nat.le_of_ble_eq_true rfl) (fun K C E N0 => ?_)
  refine k_aload_n C dX8_init_0 rfl ?_
  refine k_objinit C rfl q320 q72 qobj dX8_init_1 ⟨(Nat.le_of_ble_eq_true rfl), (Nat.le_of_ble_eq_true rfl)⟩ ?_
  refine k_aload_n C dX8_init_4 rfl ?_
  refine k_aload_n C dX8_init_5 rfl ?_
  refine k_putF C fg_X8_7 ft_7_0 rfl (fun r hr => by cases hr; rfl) dX8_init_6 (by assumption) (Or.inl rfl) rfl rfl (fun h1 P1 => ?_)
  have ha1 := P1.2.1
  refine k_aload_n C dX8_init_9 rfl ?_
  refine k_iload_n C dX8_init_10 rfl ?_
  refine k_putF C fg_X8_13 ft_7_1 rfl (fun r hr => by cases hr; rfl) dX8_init_11 (by assumption) (Or.inl rfl) rfl rfl (fun h2 P2 => ?_)
  have ha2 := P2.2.1
  refine k_aload_n C dX8_init_14 rfl ?_
  refine k_iconst C dX8_init_15 ?_
  refine k_iload_n C dX8_init_16 rfl ?_
  refine k_imul C dX8_init_17 ?_
  refine k_iconst C dX8_init_18 ?_
  refine k_iadd C dX8_init_19 ?_
  refine k_newarr (kd := 0) (g := fun j : Nat => jI ((fun _ => 0 : Int → Int) (j : Int))) C q358 rfl rfl (fun _ => rfl) dX8_init_20 (by omega) (by decide) (by omega) (fun tp h3 N3 => ?_)
  have ha3 := N3.2.2.1.2 _ _ ha2
  have hn := N3.ne ha2
  refine k_putF C fg_X8_17 ft_7_2 rfl (fun r hr => by cases hr; rfl) dX8_init_22 (by assumption) (Or.inl rfl) rfl rfl (fun h4 P4 => ?_)
  have e : (2 * (R : Int) + 1).toNat = 2 * R + 1 := by omega
  rw [e] at N3
  have hU : Upd h h2 [a] := ⟨by rw [P2.1, P1.1]; exact Nat.le_refl _, fun b d e hb => P2.2.2 _ _ (P1.2.2 _ _ e (by simpa using hb)) (by simpa using hb)⟩
  have hU4 : Upd h h4 [a] := (hU.trans (N3.2.2.1.upd [a]) (fun x hx => Or.inl hx)).trans P4.upd (fun x hx => Or.inl hx)
  exact k_vret C E dX8_init_25 ⟨by omega, by omega⟩ ⟨rfl, tp, hU.none N3.1 (by simpa using Ne.symm hn), ⟨P4.2.1, P4.2.2 _ _ N3.2.1 (Ne.symm hn)⟩, hU4⟩
theorem c_wkSymbol {w : Wd} {h : Hp} {a t tp R : Nat} {T : Tb} {c : Cf} {i : Int} (hR : R < 1000) (H : isWk h a t tp R c) (hc : CfOk T c) (hn : c.n ≤ R) (hi : -100000 ≤ i ∧ i ≤ 100000) : Ct w yX8_symbol (ws_ yX8_symbol cX8_symbol 2 (some FieldType.int)) 0 0 0 0 [.ref a, jI i] h (fun v h' => v = some (jI (c.tp i)) ∧ h' = h) NoX := by
  obtain ⟨H1, H2⟩ := H
  obtain ⟨-, ⟨h3, h4, h5, h6, h7, h8⟩, h9, h10⟩ := hc
  refine Ct.of (by decide) [some (.ref a), some (jI i)] rfl (Nat.le_of_ble_eq_true rfl) (fun K C E N0 => ?_)
  refine k_iload_n C dX8_symbol_0 rfl ?_
  refine k_aload_n C dX8_symbol_1 rfl ?_
  refine k_get C fg_X8_13 dX8_symbol_2 (by assumption) (by rfl) ?_
  refine k_ineg C dX8_symbol_5 ?_
  refine k_icmp_lt C dX8_symbol_6 (tgt := 17) (by decide) (by omega) (fun h1 => ?_) (fun h2 => ?_)
  · refine k_iconst C dX8_symbol_17 ?_
    refine k_goto C dX8_symbol_18 (tgt := 32) (by decide) ?_
    rw [show (0 : Int) = c.tp i from (h10 i (by omega)).symm]
    exact k_iret C E dX8_symbol_32 (by omega) ⟨rfl, rfl⟩
  · refine k_iload_n C dX8_symbol_9 rfl ?_
    refine k_aload_n C dX8_symbol_10 rfl ?_
    refine k_get C fg_X8_13 dX8_symbol_11 (by assumption) (by rfl) ?_
    refine k_icmp_le C dX8_symbol_14 (tgt := 21) (by decide) (by omega) (fun g1 => ?_) (fun g2 => ?_)
    · refine k_aload_n C dX8_symbol_21 rfl ?_
      refine k_get C fg_X8_17 dX8_symbol_22 (by assumption) (by rfl) ?_
      refine k_aload_n C dX8_symbol_25 rfl ?_
      refine k_get C fg_X8_13 dX8_symbol_26 (by assumption) (by rfl) ?_
      refine k_iload_n C dX8_symbol_29 rfl ?_
      refine k_iadd C dX8_symbol_30 ?_
      refine k_iald C dX8_symbol_31 (by assumption) (by rfl) (by omega) ?_
      rw [show shf R c.tp (R + i) = c.tp i by unfold shf; rw [show (R : Int) + i - R = i by omega]]
      exact k_iret C E dX8_symbol_32 (by omega) ⟨rfl, rfl⟩
    · refine k_iconst C dX8_symbol_17 ?_
      refine k_goto C dX8_symbol_18 (tgt := 32) (by decide) ?_
      rw [show (0 : Int) = c.tp i from (h10 i (by omega)).symm]
      exact k_iret C E dX8_symbol_32 (by omega) ⟨rfl, rfl⟩
theorem c_hasStopped {w : Wd} {h : Hp} {a t tp R lst ar : Nat} {T : Tb} {c : Cf} (H : isWk h a t tp R c) (G : isTb w h t lst ar T) (hT : TbOk T) (hc : CfOk T c) : Ct w yX8_hasStopped (ws_ yX8_hasStopped cX8_hasStopped 1 (some FieldType.boolean)) 0 0 0 0 [.ref a] h (fun v h' => v = some (jI (b2i (decide (c.st = T.1)))) ∧ h' = h) NoX := by
  obtain ⟨H1, H2⟩ := H
  have G1 := G.1
  obtain ⟨h3, h4⟩ := hc.1
  have := hT.2.1
  refine Ct.of (by decide) [some (.ref a)] rfl (Nat.le_of_ble_eq_true rfl) (fun K C E N0 => ?_)
  refine k_aload_n C dX8_hasStopped_0 rfl ?_
  refine k_get C fg_X8_21 dX8_hasStopped_1 (by assumption) (by rfl) ?_
  refine k_aload_n C dX8_hasStopped_4 rfl ?_
  refine k_get C fg_X8_7 dX8_hasStopped_5 (by assumption) (by rfl) ?_
  refine k_getN C fn_X8_24 dX8_hasStopped_8 (by assumption) (by rfl) ?_
  refine k_icmp_ne C dX8_hasStopped_11 (tgt := 18) (by decide) (by omega) (fun h1 => ?_) (fun h2 => ?_)
  · refine k_iconst C dX8_hasStopped_18 ?_
    exact k_zret (b := false) C E dX8_hasStopped_19 (by omega) ⟨by rw [decide_eq_false h1], rfl⟩
  · refine k_iconst C dX8_hasStopped_14 ?_
    refine k_goto C dX8_hasStopped_15 (tgt := 19) (by decide) ?_
    exact k_zret (b := true) C E dX8_hasStopped_19 (by omega) ⟨by rw [decide_eq_true h2], rfl⟩
/-- a machine hangs: it has not stopped, and nothing is told where it stands -/
def hangB (T : Tb) (c : Cf) : Bool := !decide (c.st = T.1) && !(T.2 (2 * c.st + c.tp c.pl)).isSome
theorem c_hangs {w : Wd} {h : Hp} {a t tp R lst ar : Nat} {T : Tb} {c : Cf} (hR : R < 1000) (H : isWk h a t tp R c) (G : isTb w h t lst ar T) (hT : TbOk T) (hc : CfOk T c) (hn : c.n ≤ R) : Ct w yX8_hangs (ws_ yX8_hangs cX8_hangs 1 (some FieldType.boolean)) 4 86 0 0 [.ref a] h (fun v h' => v = some (jI (b2i (hangB T c))) ∧ h' = h) NoX := by
  have H1 := H.1
  have hc0 := hc
  obtain ⟨⟨h3, h4⟩, ⟨h5, h6, h7, h8, h9, h10⟩, h11, h12⟩ := hc
  have h13 := h11 c.pl
  have G1 := G.1
  refine Ct.of (by decide) [some (.ref a)] rfl (Nat.le_of_ble_eq_true rfl) (fun K C E N0 => ?_)
  refine k_aload_n C dX8_hangs_0 rfl ?_
  refine kx_V C rfl mv_X8_29 dX8_hangs_1 ((c_hasStopped H G hT hc0)) (by assumption) rfl rfl (Nat.le_of_ble_eq_true rfl) ⟨(Nat.le_of_ble_eq_true rfl), (Nat.le_of_ble_eq_true rfl)⟩ (by omega) (fun v h1 hp_ => ?_) (fun _ _ hx => hx.elim)
  obtain ⟨rfl, rfl⟩ := hp_
  refine k_ifne_b C dX8_hangs_4 (tgt := 36) (by decide) (fun h1 => ?_) (fun h2 => ?_)
  · refine k_iconst C dX8_hangs_36 ?_
    exact k_zret (b := false) C E dX8_hangs_37 (by omega) ⟨by unfold hangB; rw [h1]; rfl, rfl⟩
  · have hst : c.st ≠ T.1 := by simpa using h2
    refine k_aload_n C dX8_hangs_7 rfl ?_
    refine k_get C fg_X8_7 dX8_hangs_8 (by assumption) (by rfl) ?_
    refine k_aload_n C dX8_hangs_11 rfl ?_
    refine k_get C fg_X8_21 dX8_hangs_12 (by assumption) (by rfl) ?_
    refine k_aload_n C dX8_hangs_15 rfl ?_
    refine k_aload_n C dX8_hangs_16 rfl ?_
    refine k_get C fg_X8_33 dX8_hangs_17 (by assumption) (by rfl) ?_
    refine kx_V C rfl mv_X8_36 dX8_hangs_20 ((c_wkSymbol hR H hc0 hn (by omega))) (by assumption) rfl rfl (Nat.le_of_ble_eq_true rfl) ⟨(Nat.le_of_ble_eq_true rfl), (Nat.le_of_ble_eq_true rfl)⟩ (by omega) (fun v h1 hp_ => ?_) (fun _ _ hx => hx.elim)
    obtain ⟨rfl, rfl⟩ := hp_
    refine kx_V C rfl mv_X8_40 dX8_hangs_23 ((c_cell G hT.2.1 (by omega) (by omega))) (by assumption) rfl rfl (Nat.le_of_ble_eq_true rfl) ⟨(Nat.le_of_ble_eq_true rfl), (Nat.le_of_ble_eq_true rfl)⟩ (by omega) (fun v h1 hp_ => ?_) (fun _ _ hx => hx.elim)
    obtain ⟨o, rfl, e2, rfl⟩ := hp_
    obtain ⟨vo, e3⟩ := e2.cell
    refine kx_V C rfl mv_X8_44 dX8_hangs_26 ((c_orPresent e2)) (by assumption) rfl rfl (Nat.le_of_ble_eq_true rfl) ⟨(Nat.le_of_ble_eq_true rfl), (Nat.le_of_ble_eq_true rfl)⟩ (by omega) (fun v h1 hp_ => ?_) (fun _ _ hx => hx.elim)
    obtain ⟨rfl, rfl⟩ := hp_
    refine k_ifne_b C dX8_hangs_29 (tgt := 36) (by decide) (fun h1 => ?_) (fun h14 => ?_)
    · refine k_iconst C dX8_hangs_36 ?_
      exact k_zret (b := false) C E dX8_hangs_37 (by omega) ⟨by unfold hangB; rw [h1]; simp, rfl⟩
    · refine k_iconst C dX8_hangs_32 ?_
      refine k_goto C dX8_hangs_33 (tgt := 37) (by decide) ?_
      exact k_zret (b := true) C E dX8_hangs_37 (by omega) ⟨by unfold hangB; rw [h2, h14]; rfl, rfl⟩
theorem nxt_b {T : Tb} {c : Cf} : (nxt T c).isSome = (!decide (c.st = T.1) && !hangB T c) := by
  unfold nxt hangB
  by_cases h : c.st = T.1
  · rw [if_pos h, decide_eq_true h]; rfl
  · rw [if_neg h, decide_eq_false h]; simp
theorem c_goesOn {w : Wd} {h : Hp} {a t tp R lst ar : Nat} {T : Tb} {c : Cf} (hR : R < 1000) (H : isWk h a t tp R c) (G : isTb w h t lst ar T) (hT : TbOk T) (hc : CfOk T c) (hn : c.n ≤ R) : Ct w yX8_goesOn (ws_ yX8_goesOn cX8_goesOn 1 (some FieldType.boolean)) 5 106 0 0 [.ref a] h (fun v h' => v = some (jI (b2i (nxt T c).isSome)) ∧ h' = h) NoX := by
  have H1 := H.1
  refine Ct.of (by decide) [some (.ref a)] rfl (Nat.le_of_ble_eq_true rfl) (fun K C E N0 => ?_)
  refine k_aload_n C dX8_goesOn_0 rfl ?_
  refine kx_V C rfl mv_X8_29 dX8_goesOn_1 ((c_hasStopped H G hT hc)) (by assumption) rfl rfl (Nat.le_of_ble_eq_true rfl) ⟨(Nat.le_of_ble_eq_true rfl), (Nat.le_of_ble_eq_true rfl)⟩ (by omega) (fun v h1 hp_ => ?_) (fun _ _ hx => hx.elim)
  obtain ⟨rfl, rfl⟩ := hp_
  refine k_ifne_b C dX8_goesOn_4 (tgt := 18) (by decide) (fun h1 => ?_) (fun h2 => ?_)
  · refine k_iconst C dX8_goesOn_18 ?_
    exact k_zret (b := false) C E dX8_goesOn_19 (by omega) ⟨by rw [nxt_b, h1]; rfl, rfl⟩
  · refine k_aload_n C dX8_goesOn_7 rfl ?_
    refine kx_V C rfl mv_X8_49 dX8_goesOn_8 ((c_hangs hR H G hT hc hn)) (by assumption) rfl rfl (Nat.le_of_ble_eq_true rfl) ⟨(Nat.le_of_ble_eq_true rfl), (Nat.le_of_ble_eq_true rfl)⟩ (by omega) (fun v h1 hp_ => ?_) (fun _ _ hx => hx.elim)
    obtain ⟨rfl, rfl⟩ := hp_
    refine k_ifne_b C dX8_goesOn_11 (tgt := 18) (by decide) (fun h3 => ?_) (fun h4 => ?_)
    · refine k_iconst C dX8_goesOn_18 ?_
      exact k_zret (b := false) C E dX8_goesOn_19 (by omega) ⟨by rw [nxt_b, h3]; simp, rfl⟩
    · refine k_iconst C dX8_goesOn_14 ?_
      refine k_goto C dX8_goesOn_15 (tgt := 19) (by decide) ?_
      exact k_zret (b := true) C E dX8_goesOn_19 (by omega) ⟨by rw [nxt_b, h2, h4]; rfl, rfl⟩
theorem c_step {w : Wd} {h : Hp} {a t tp R lst ar : Nat} {T : Tb} {c : Cf} {r : Ru} (hR : R < 1000) (H : isWk h a t tp R c) (G : isTb w h t lst ar T) (hT : TbOk T) (hc : CfOk T c) (hn : c.n < R) (hr : nxt T c = some r) : Ct w yX8_step (ws_ yX8_step cX8_step 2 none) 4 86 0 0 [.ref a] h (fun v h' => v = none ∧ Upd h h' [a, tp] ∧ isWk h' a t tp R (adv c r)) NoX := by
  have H1 := H.1
  have H2 := H.2
  obtain ⟨r1, r2, r3, r4⟩ := hc.rule hT hr
  obtain ⟨hs, hcell⟩ := nxt_some hr
  have hc0 := hc
  obtain ⟨⟨h3, h4⟩, ⟨h5, h6, h7, h8, h9, h10⟩, h11, h12⟩ := hc
  have h13 := h11 c.pl
  have G1 := G.1
  have hT2 := hT.2.1
  have hat : tp ≠ a := ne_cel H2 H1 ne_oa
  refine Ct.of (by decide) [some (.ref a), none] rfl (Nat.le_of_ble_eq_true rfl) (fun K C E N0 => ?_)
  refine k_aload_n C dX8_step_0 rfl ?_
  refine k_get C fg_X8_7 dX8_step_1 (by assumption) (by rfl) ?_
  refine k_aload_n C dX8_step_4 rfl ?_
  refine k_get C fg_X8_21 dX8_step_5 (by assumption) (by rfl) ?_
  refine k_aload_n C dX8_step_8 rfl ?_
  refine k_aload_n C dX8_step_9 rfl ?_
  refine k_get C fg_X8_33 dX8_step_10 (by assumption) (by rfl) ?_
  refine kx_V C rfl mv_X8_36 dX8_step_13 ((c_wkSymbol hR H hc0 (by omega) (by omega))) (by assumption) rfl rfl (Nat.le_of_ble_eq_true rfl) ⟨(Nat.le_of_ble_eq_true rfl), (Nat.le_of_ble_eq_true rfl)⟩ (by omega) (fun v h1 hp_ => ?_) (fun _ _ hx => hx.elim)
  obtain ⟨rfl, rfl⟩ := hp_
  refine kx_V C rfl mv_X8_40 dX8_step_16 ((c_cell G hT.2.1 (by omega) (by omega))) (by assumption) rfl rfl (Nat.le_of_ble_eq_true rfl) ⟨(Nat.le_of_ble_eq_true rfl), (Nat.le_of_ble_eq_true rfl)⟩ (by omega) (fun v h1 hp_ => ?_) (fun _ _ hx => hx.elim)
  obtain ⟨o, rfl, e2, rfl⟩ := hp_
  obtain ⟨vo, e3⟩ := e2.cell
  rw [hcell] at e2
  refine kx_V C rfl mv_X8_52 dX8_step_19 ((c_orGet e2)) (by assumption) rfl rfl (Nat.le_of_ble_eq_true rfl) ⟨(Nat.le_of_ble_eq_true rfl), (Nat.le_of_ble_eq_true rfl)⟩ (by omega) (fun v h1 hp_ => ?_) (fun _ _ hx => hx.elim)
  obtain ⟨b, rfl, e6, rfl⟩ := hp_
  unfold isRu at e6
  refine k_castO C ck_X8_56_6 dX8_step_22 (by assumption) ?_
  refine k_astore_n C dX8_step_25 (Nat.le_of_ble_eq_true rfl) rfl ?_
  refine k_aload_n C dX8_step_26 rfl ?_
  refine k_get C fg_X8_17 dX8_step_27 (by assumption) (by rfl) ?_
  refine k_aload_n C dX8_step_30 rfl ?_
  refine k_get C fg_X8_13 dX8_step_31 (by assumption) (by rfl) ?_
  refine k_aload_n C dX8_step_34 rfl ?_
  refine k_get C fg_X8_33 dX8_step_35 (by assumption) (by rfl) ?_
  refine k_iadd C dX8_step_38 ?_
  refine k_aload_n C dX8_step_39 rfl ?_
  refine k_getN C fn_X8_58 dX8_step_40 (by assumption) (by rfl) ?_
  refine k_iast C dX8_step_43 (by assumption) (by omega) (fun g1 P1 => ?_)
  rw [shf_up] at P1
  have A1 := P1.2.2 _ _ H1 (Ne.symm hat)
  have B1 := P1.2.2 _ _ e6 (ne_cel e6 H2 ne_ao)
  refine k_aload_n C dX8_step_44 rfl ?_
  refine k_dup C dX8_step_45 rfl ?_
  refine k_get C fg_X8_33 dX8_step_46 (by assumption) (by rfl) ?_
  refine k_aload_n C dX8_step_49 rfl ?_
  refine k_getN C fn_X8_61 dX8_step_50 (by assumption) (by rfl) ?_
  refine k_iadd C dX8_step_53 ?_
  refine k_put C fg_X8_33 ft_7_4 dX8_step_54 (by assumption) rfl rfl rfl (fun g2 P2 => ?_)
  have A2 := P2.2.1
  have hba : b ≠ a := ne_cel e6 H1 (ne_cls (by decide))
  have B2 := P2.2.2 _ _ B1 hba
  have D2 := P2.2.2 _ _ P1.2.1 hat
  refine k_aload_n C dX8_step_57 rfl ?_
  refine k_aload_n C dX8_step_58 rfl ?_
  refine k_getN C fn_X8_64 dX8_step_59 (by assumption) (by rfl) ?_
  refine k_put C fg_X8_21 ft_7_3 dX8_step_62 (by assumption) rfl rfl rfl (fun g3 P3 => ?_)
  have A3 := P3.2.1
  refine k_aload_n C dX8_step_65 rfl ?_
  refine k_aload_n C dX8_step_66 rfl ?_
  refine k_get C fg_X8_67 dX8_step_67 (by assumption) (by rfl) ?_
  refine k_aload_n C dX8_step_70 rfl ?_
  refine k_get C fg_X8_33 dX8_step_71 (by assumption) (by rfl) ?_
  refine k_min C rfl q390 dX8_step_74 (by omega) ⟨(Nat.le_of_ble_eq_true rfl), (Nat.le_of_ble_eq_true rfl)⟩ (by omega) ?_
  refine k_put C fg_X8_67 ft_7_5 dX8_step_77 (by assumption) rfl rfl rfl (fun g4 P4 => ?_)
  have A4 := P4.2.1
  refine k_aload_n C dX8_step_80 rfl ?_
  refine k_aload_n C dX8_step_81 rfl ?_
  refine k_get C fg_X8_76 dX8_step_82 (by assumption) (by rfl) ?_
  refine k_aload_n C dX8_step_85 rfl ?_
  refine k_get C fg_X8_33 dX8_step_86 (by assumption) (by rfl) ?_
  refine k_max C rfl q393 dX8_step_89 (by omega) ⟨(Nat.le_of_ble_eq_true rfl), (Nat.le_of_ble_eq_true rfl)⟩ (by omega) ?_
  refine k_put C fg_X8_76 ft_7_6 dX8_step_92 (by assumption) rfl rfl rfl (fun g5 P5 => ?_)
  have A5 := P5.2.1
  refine k_aload_n C dX8_step_95 rfl ?_
  refine k_dup C dX8_step_96 rfl ?_
  refine k_get C fg_X8_82 dX8_step_97 (by assumption) (by rfl) ?_
  refine k_iconst C dX8_step_100 ?_
  refine k_iadd C dX8_step_101 ?_
  refine k_put C fg_X8_82 ft_7_7 dX8_step_102 (by assumption) rfl rfl rfl (fun g6 P6 => ?_)
  have Q := (((P2.trans P3).trans P4).trans P5).trans P6
  have hU : Upd h1 g6 [a, tp] := (P1.upd.sub (by simp)).trans Q.upd (fun x hx => Or.inl (by simpa using Or.inl (by simpa using hx)))
  exact k_vret C E dX8_step_105 (by omega) ⟨rfl, hU, Q.2.1, Q.2.2 _ _ P1.2.1 hat⟩
theorem c_walk {w : Wd} {h : Hp} {a t tp R lst ar m : Nat} {T : Tb} {c : Cf} (hR : R < 1000) (H : isWk h a t tp R c) (G : isTb w h t lst ar T) (hT : TbOk T) (hc : CfOk T c) (hn : c.n + m ≤ R) : Ct w yX8_walk (ws_ yX8_walk cX8_walk 3 (some (FieldType.object "Haltingale$Walker"))) 6 126 0 0 [.ref a, jI (m : Nat)] h (fun v h' => v = some (.ref a) ∧ Upd h h' [a, tp] ∧ isWk h' a t tp R (runN T m c)) NoX := by
  refine Ct.of (by decide) [some (.ref a), some (jI (m : Nat)), none] rfl (Nat.le_of_ble_eq_true rfl) (fun K C E N0 => ?_)
  have loop : ∀ (d i : Nat) (hh : Hp) (c' : Cf), i + d = m → c'.n + d ≤ R → Upd h hh [a, tp] → isWk hh a t tp R c' → CfOk T c' → runN T d c' = runN T m c → Wk w K hh 0 0 2 [some (.ref a), some (jI (m : Nat)), some (jI (i : Nat))] [] := by
    intro d
    induction d with
    | zero =>
      intro i hh c' hi h1 hU h2 h3 h4
      refine k_iload_n C dX8_walk_2 rfl ?_
      refine k_iload_n C dX8_walk_3 rfl ?_
      refine k_icmp_ge C dX8_walk_4 (tgt := 24) (by decide) (by omega) (fun g1 => ?_) (fun g2 => ?_)
      · refine k_aload_n C dX8_walk_24 rfl ?_
        exact k_aret C (Or.inl ⟨_, rfl⟩) E dX8_walk_25 (by omega) ⟨rfl, hU, by rw [← h4]; exact h2⟩
      · omega
    | succ d ih =>
      intro i hh c' hi h1 hU h2 h3 h4
      have G' := G.wk hU H
      have h21 := h2.1
      refine k_iload_n C dX8_walk_2 rfl ?_
      refine k_iload_n C dX8_walk_3 rfl ?_
      refine k_icmp_ge C dX8_walk_4 (tgt := 24) (by decide) (by omega) (fun g1 => ?_) (fun g2 => ?_)
      · omega
      · refine k_aload_n C dX8_walk_7 rfl ?_
        refine kx_V C rfl mv_X8_85 dX8_walk_8 ((c_goesOn hR h2 G' hT h3 (by omega))) (by assumption) rfl rfl (Nat.le_of_ble_eq_true rfl) ⟨(Nat.le_of_ble_eq_true rfl), (Nat.le_of_ble_eq_true rfl)⟩ (by omega) (fun v h5 hp_ => ?_) (fun _ _ hx => hx.elim)
        obtain ⟨rfl, rfl⟩ := hp_
        refine k_ifeq_b C dX8_walk_11 (tgt := 24) (by decide) (fun g3 => ?_) (fun g4 => ?_)
        · refine k_aload_n C dX8_walk_24 rfl ?_
          have g3' : nxt T c' = none := by simpa using g3
          exact k_aret C (Or.inl ⟨_, rfl⟩) E dX8_walk_25 (by omega) ⟨rfl, hU, by rw [← h4, runN_stop g3']; exact h2⟩
        · obtain ⟨r, hr⟩ := Option.isSome_iff_exists.mp g4
          refine k_aload_n C dX8_walk_14 rfl ?_
          refine kx_V C rfl mv_X8_88 dX8_walk_15 ((c_step hR h2 G' hT h3 (by omega) hr)) (by assumption) rfl rfl (Nat.le_of_ble_eq_true rfl) ⟨(Nat.le_of_ble_eq_true rfl), (Nat.le_of_ble_eq_true rfl)⟩ (by omega) (fun v h6 hp_ => ?_) (fun _ _ hx => hx.elim)
          obtain ⟨rfl, hU2, h7⟩ := hp_
          refine k_iinc C dX8_walk_18 rfl rfl ?_
          refine k_goto C dX8_walk_21 (tgt := 2) (by decide) ?_
          rw [runN_go hr] at h4
          exact ih (i + 1) h6 (adv c' r) (by omega) (by show c'.n + 1 + d ≤ R; omega) (hU.trans hU2 (fun x hx => Or.inl hx)) h7 (adv_ok hT h3 hr) h4
  refine k_iconst C dX8_walk_0 ?_
  refine k_istore_n C dX8_walk_1 (Nat.le_of_ble_eq_true rfl) rfl ?_
  exact loop m 0 h c (by omega) hn ⟨Nat.le_refl _, fun _ _ e _ => e⟩ H hc rfl
theorem c_ones {w : Wd} {h : Hp} {a t tp R : Nat} {T : Tb} {c : Cf} (hR : R < 1000) (H : isWk h a t tp R c) (hc : CfOk T c) (hn : c.n ≤ R) : Ct w yX8_ones (ws_ yX8_ones cX8_ones 6 (some FieldType.int)) 0 0 0 0 [.ref a] h (fun v h' => v = some (jI (onesC c)) ∧ h' = h) NoX := by
  have H1 := H.1
  have H2 := H.2
  refine Ct.of (by decide) [some (.ref a), none, none, none, none, none] rfl (Nat.le_of_ble_eq_true rfl) (fun K C E N0 => ?_)
  have loop : ∀ (d i : Nat) (x5 : Option Value), i + d = 2 * R + 1 → Wk w K h 0 0 13 [some (.ref a), some (jI (sumF c.tp (-(R : Int)) i)), some (.ref tp), some (jI ((2 * R + 1 : Nat) : Int)), some (jI (i : Nat)), x5] [] := by
    intro d
    induction d with
    | zero =>
      intro i x5 hi
      have hi' : i = 2 * R + 1 := by omega
      subst hi'
      refine k_iload C dX8_ones_13 rfl ?_
      refine k_iload_n C dX8_ones_15 rfl ?_
      refine k_icmp_ge C dX8_ones_16 (tgt := 36) (by decide) (by omega) (fun g1 => ?_) (fun g2 => ?_)
      · refine k_iload_n C dX8_ones_36 rfl ?_
        rw [onesC_wide hc hn]
        exact k_iret C E dX8_ones_37 (by omega) ⟨rfl, rfl⟩
      · omega
    | succ d ih =>
      intro i x5 hi
      refine k_iload C dX8_ones_13 rfl ?_
      refine k_iload_n C dX8_ones_15 rfl ?_
      refine k_icmp_ge C dX8_ones_16 (tgt := 36) (by decide) (by omega) (fun g1 => ?_) (fun g2 => ?_)
      · omega
      · refine k_aload_n C dX8_ones_19 rfl ?_
        refine k_iload C dX8_ones_20 rfl ?_
        refine k_iald C dX8_ones_22 (by assumption) (by rfl) (by omega) ?_
        refine k_istore C dX8_ones_23 (Nat.le_of_ble_eq_true rfl) rfl ?_
        refine k_iload_n C dX8_ones_25 rfl ?_
        refine k_iload C dX8_ones_26 rfl ?_
        refine k_iadd C dX8_ones_28 ?_
        refine k_istore_n C dX8_ones_29 (Nat.le_of_ble_eq_true rfl) rfl ?_
        refine k_iinc C dX8_ones_30 rfl rfl ?_
        refine k_goto C dX8_ones_33 (tgt := 13) (by decide) ?_
        rw [show sumF c.tp (-(R : Int)) i + shf R c.tp (i : Int) = sumF c.tp (-(R : Int)) (i + 1) by unfold shf; rw [show (i : Int) - R = -(R : Int) + i by omega]; rfl]
        exact ih (i + 1) _ (by omega)
  refine k_iconst C dX8_ones_0 ?_
  refine k_istore_n C dX8_ones_1 (Nat.le_of_ble_eq_true rfl) rfl ?_
  refine k_aload_n C dX8_ones_2 rfl ?_
  refine k_get C fg_X8_17 dX8_ones_3 (by assumption) (by rfl) ?_
  refine k_astore_n C dX8_ones_6 (Nat.le_of_ble_eq_true rfl) rfl ?_
  refine k_aload_n C dX8_ones_7 rfl ?_
  refine k_alen C dX8_ones_8 (by assumption) (by rfl) ?_
  refine k_istore_n C dX8_ones_9 (Nat.le_of_ble_eq_true rfl) rfl ?_
  refine k_iconst C dX8_ones_10 ?_
  refine k_istore C dX8_ones_11 (Nat.le_of_ble_eq_true rfl) rfl ?_
  exact loop (2 * R + 1) 0 none (by omega)
theorem c_runs {w : Wd} {h : Hp} {a t tp R : Nat} {T : Tb} {c : Cf} (hR : R < 1000) (H : isWk h a t tp R c) (hc : CfOk T c) (hn : c.n ≤ R) : Ct w yX8_runs (ws_ yX8_runs cX8_runs 3 (some FieldType.int)) 1 21 0 0 [.ref a] h (fun v h' => v = some (jI (runsC c)) ∧ h' = h) NoX := by
  have H1 := H.1
  have hc0 := hc
  obtain ⟨-, ⟨h3, h4, h5, h6, h7, h8⟩, h9, h10⟩ := hc
  refine Ct.of (by decide) [some (.ref a), none, none] rfl (Nat.le_of_ble_eq_true rfl) (fun K C E N0 => ?_)
  have loop : ∀ (d i : Nat), i + d = (c.gr - c.le).toNat → Wk w K h 0 0 9 [some (.ref a), some (jI (1 + sumF (fun j => if c.tp j = c.tp (j - 1) then 0 else 1) (c.le + 1) i)), some (jI (c.le + 1 + i))] [] := by
    intro d
    induction d with
    | zero =>
      intro i hi
      refine k_iload_n C dX8_runs_9 rfl ?_
      refine k_aload_n C dX8_runs_10 rfl ?_
      refine k_get C fg_X8_76 dX8_runs_11 (by assumption) (by rfl) ?_
      refine k_icmp_gt C dX8_runs_14 (tgt := 46) (by decide) (by omega) (fun g1 => ?_) (fun g2 => ?_)
      · refine k_iload_n C dX8_runs_46 rfl ?_
        have hi' : i = (c.gr - c.le).toNat := by omega
        subst hi'
        exact k_iret C E dX8_runs_47 (by omega) ⟨rfl, rfl⟩
      · omega
    | succ d ih =>
      intro i hi
      have e := sumF_b (f := fun j => if c.tp j = c.tp (j - 1) then 0 else 1) (fun j => by split <;> simp) (c.le + 1) i
      have e2 : sumF (fun j => if c.tp j = c.tp (j - 1) then 0 else 1) (c.le + 1) (i + 1) = sumF (fun j => if c.tp j = c.tp (j - 1) then 0 else 1) (c.le + 1) i + (if c.tp (c.le + 1 + i) = c.tp (c.le + 1 + i - 1) then 0 else 1) := rfl
      have b1 := h9 (c.le + 1 + i)
      have b2 := h9 (c.le + 1 + i - 1)
      refine k_iload_n C dX8_runs_9 rfl ?_
      refine k_aload_n C dX8_runs_10 rfl ?_
      refine k_get C fg_X8_76 dX8_runs_11 (by assumption) (by rfl) ?_
      refine k_icmp_gt C dX8_runs_14 (tgt := 46) (by decide) (by omega) (fun g1 => ?_) (fun g2 => ?_)
      · omega
      · refine k_iload_n C dX8_runs_17 rfl ?_
        refine k_aload_n C dX8_runs_18 rfl ?_
        refine k_iload_n C dX8_runs_19 rfl ?_
        refine kx_V C rfl mv_X8_36 dX8_runs_20 ((c_wkSymbol hR H hc0 hn (by omega))) (by assumption) rfl rfl (Nat.le_of_ble_eq_true rfl) ⟨(Nat.le_of_ble_eq_true rfl), (Nat.le_of_ble_eq_true rfl)⟩ (by omega) (fun v h1 hp_ => ?_) (fun _ _ hx => hx.elim)
        obtain ⟨rfl, rfl⟩ := hp_
        refine k_aload_n C dX8_runs_23 rfl ?_
        refine k_iload_n C dX8_runs_24 rfl ?_
        refine k_iconst C dX8_runs_25 ?_
        refine k_isub C dX8_runs_26 ?_
        refine kx_V C rfl mv_X8_36 dX8_runs_27 ((c_wkSymbol hR H hc0 hn (by omega))) (by assumption) rfl rfl (Nat.le_of_ble_eq_true rfl) ⟨(Nat.le_of_ble_eq_true rfl), (Nat.le_of_ble_eq_true rfl)⟩ (by omega) (fun v h1 hp_ => ?_) (fun _ _ hx => hx.elim)
        obtain ⟨rfl, rfl⟩ := hp_
        refine k_icmp_ne C dX8_runs_30 (tgt := 37) (by decide) (by omega) (fun g3 => ?_) (fun g4 => ?_)
        · refine k_iconst C dX8_runs_37 ?_
          refine k_iadd C dX8_runs_38 ?_
          refine k_istore_n C dX8_runs_39 (Nat.le_of_ble_eq_true rfl) rfl ?_
          refine k_iinc C dX8_runs_40 rfl rfl ?_
          refine k_goto C dX8_runs_43 (tgt := 9) (by decide) ?_
          rw [if_neg g3] at e2
          rw [Int.add_assoc 1, ← e2, show c.le + 1 + (i : Int) + 1 = c.le + 1 + ((i + 1 : Nat) : Int) by omega]
          exact ih (i + 1) (by omega)
        · refine k_iconst C dX8_runs_33 ?_
          refine k_goto C dX8_runs_34 (tgt := 38) (by decide) ?_
          refine k_iadd C dX8_runs_38 ?_
          refine k_istore_n C dX8_runs_39 (Nat.le_of_ble_eq_true rfl) rfl ?_
          refine k_iinc C dX8_runs_40 rfl rfl ?_
          refine k_goto C dX8_runs_43 (tgt := 9) (by decide) ?_
          rw [if_pos g4] at e2
          rw [Int.add_assoc 1, ← e2, show c.le + 1 + (i : Int) + 1 = c.le + 1 + ((i + 1 : Nat) : Int) by omega]
          exact ih (i + 1) (by omega)
  refine k_iconst C dX8_runs_0 ?_
  refine k_istore_n C dX8_runs_1 (Nat.le_of_ble_eq_true rfl) rfl ?_
  refine k_aload_n C dX8_runs_2 rfl ?_
  refine k_get C fg_X8_67 dX8_runs_3 (by assumption) (by rfl) ?_
  refine k_iconst C dX8_runs_6 ?_
  refine k_iadd C dX8_runs_7 ?_
  refine k_istore_n C dX8_runs_8 (Nat.le_of_ble_eq_true rfl) rfl ?_
  have z := loop (c.gr - c.le).toNat 0 (by omega)
  rw [show c.le + 1 + ((0 : Nat) : Int) = c.le + 1 by omega, show (1 : Int) + sumF (fun j => if c.tp j = c.tp (j - 1) then 0 else 1) (c.le + 1) 0 = 1 from rfl] at z
  exact z
theorem c_told {w : Wd} {h : Hp} {a t tp R : Nat} {T : Tb} {c : Cf} {what : Int} (hw : 0 ≤ what ∧ what ≤ 6) (hR : R < 1000) (H : isWk h a t tp R c) (hc : CfOk T c) (hn : c.n ≤ R) : Ct w yX8_told (ws_ yX8_told cX8_told 2 (some FieldType.int)) 2 43 0 0 [.ref a, jI what] h (fun v h' => v = some (jI (toldC c what)) ∧ h' = h) NoX := by
  have H1 := H.1
  have hs : what = 0 ∨ what = 1 ∨ what = 2 ∨ what = 3 ∨ what = 4 ∨ what = 5 ∨ what = 6 := by omega
  refine Ct.of (by decide) [some (.ref a), some (jI what)] rfl (Nat.le_of_ble_eq_true rfl) (fun K C E N0 => ?_)
  refine k_iload_n C dX8_told_0 rfl ?_
  rcases hs with e | e | e | e | e | e | e <;> subst e
  · refine k_tswIn (x := 0) (tgt := 40) C dX8_told_1 (by decide) (by decide) (by decide) rfl (by decide) ?_
    refine k_aload_n C dX8_told_40 rfl ?_
    refine k_get C fg_X8_82 dX8_told_41 (by assumption) (by rfl) ?_
    exact k_iret C E dX8_told_44 (by omega) ⟨rfl, rfl⟩
  · refine k_tswIn (x := 1) (tgt := 45) C dX8_told_1 (by decide) (by decide) (by decide) rfl (by decide) ?_
    refine k_aload_n C dX8_told_45 rfl ?_
    refine k_get C fg_X8_21 dX8_told_46 (by assumption) (by rfl) ?_
    exact k_iret C E dX8_told_49 (by omega) ⟨rfl, rfl⟩
  · refine k_tswIn (x := 2) (tgt := 50) C dX8_told_1 (by decide) (by decide) (by decide) rfl (by decide) ?_
    refine k_aload_n C dX8_told_50 rfl ?_
    refine k_get C fg_X8_33 dX8_told_51 (by assumption) (by rfl) ?_
    exact k_iret C E dX8_told_54 (by omega) ⟨rfl, rfl⟩
  · refine k_tswIn (x := 3) (tgt := 55) C dX8_told_1 (by decide) (by decide) (by decide) rfl (by decide) ?_
    refine k_aload_n C dX8_told_55 rfl ?_
    refine kx_V C rfl mv_X8_91 dX8_told_56 ((c_ones hR H hc hn)) (by assumption) rfl rfl (Nat.le_of_ble_eq_true rfl) ⟨(Nat.le_of_ble_eq_true rfl), (Nat.le_of_ble_eq_true rfl)⟩ (by omega) (fun v h1 hp_ => ?_) (fun _ _ hx => hx.elim)
    obtain ⟨rfl, rfl⟩ := hp_
    exact k_iret C E dX8_told_59 (by omega) ⟨rfl, rfl⟩
  · refine k_tswIn (x := 4) (tgt := 60) C dX8_told_1 (by decide) (by decide) (by decide) rfl (by decide) ?_
    refine k_aload_n C dX8_told_60 rfl ?_
    refine kx_V C rfl mv_X8_95 dX8_told_61 ((c_runs hR H hc hn)) (by assumption) rfl rfl (Nat.le_of_ble_eq_true rfl) ⟨(Nat.le_of_ble_eq_true rfl), (Nat.le_of_ble_eq_true rfl)⟩ (by omega) (fun v h1 hp_ => ?_) (fun _ _ hx => hx.elim)
    obtain ⟨rfl, rfl⟩ := hp_
    exact k_iret C E dX8_told_64 (by omega) ⟨rfl, rfl⟩
  · refine k_tswIn (x := 5) (tgt := 65) C dX8_told_1 (by decide) (by decide) (by decide) rfl (by decide) ?_
    refine k_aload_n C dX8_told_65 rfl ?_
    refine k_get C fg_X8_67 dX8_told_66 (by assumption) (by rfl) ?_
    exact k_iret C E dX8_told_69 (by omega) ⟨rfl, rfl⟩
  · refine k_tswOut C dX8_told_1 (tgt := 70) (by omega) (by omega) (by decide) ?_
    refine k_aload_n C dX8_told_70 rfl ?_
    refine k_get C fg_X8_76 dX8_told_71 (by assumption) (by rfl) ?_
    exact k_iret C E dX8_told_74 (by omega) ⟨rfl, rfl⟩
