/-! ===== the law's wrappers ===== -/
set_option maxRecDepth 100000
theorem x_hand {w : Wd} {K : KT} {own nm : String} {cc : ByteArray} {nL : Nat} {ret : Option FieldType} {fr lo mc ms : Nat} {h : Hp} {n k pc : Nat} {L : List (Option Value)} {st : List Value} {E0 nx : String} {hh : List (Nat × Nat × Nat × Nat)} (C : Cx w K own cc nL ret nm fr lo mc ms) (T : K.c.exceptionTable.toList = tableOf hh) (pre : List ExceptionTableEntry) (x : ExceptionTableEntry) (suf : List ExceptionTableEntry) (hs : tableOf hh = pre ++ x :: suf)
    (hp : ∀ z ∈ pre, covers z pc = false ∨ (z.catchType ≠ 0 ∧ ∃ nm : String, Cond.classLink own z.catchType nm ∈ lw_all ∧ (E0, nm) ∈ ncAll)) (hx : covers x pc = true) (h0 : x.catchType ≠ 0) (hl : Cond.classLink own x.catchType nx ∈ lw_all) (hc : Cond.castable E0 nx ∈ lw_tbl) (kk : ∀ q : Nat, Wk w K h n k x.handlerPc L [.ref q]) : Wx w K h n k pc L st E0 :=
  fun H locs ls q ce R hl' hL e1 e2 e3 => vx_catch C.ownC pre x suf (T.trans hs) (fun z hz => (hp z hz).imp id (fun y => ⟨y.1, by
    obtain ⟨-, nm, y2, y3⟩ := y
    exact ⟨nm, C.hts _ y2, And.right C.wok.2.2.2.2.2.2.2.2.2.2.2.2 (E0, nm) y3⟩⟩)) hx h0 (C.hts _ hl) (va_Nw.use rfl (C.nbw hc rfl)) e1 e2 e3 (kk q H locs ls R hl' hL)
/-- what lies where the component's own is -/
theorem ownX_cel {w : Wd} {h : Hp} {x : Nat} {X : XL} {σ : Sg} (H : isX w h x X σ) {q : Nat} (hq : ownX X σ.n q) : ∃ c : Cel, h.2 q = some c ∧ ((∃ v, c = .inl (14, v)) ∨ (∃ n v, c = .inr (4, n, v)) ∨ (∃ v, c = .inl (3, v)) ∨ (∃ v, c = .inl (1, v))) := by
  obtain ⟨hX, ⟨f, A, F⟩, ⟨ft, At, Ft⟩, hg, M, TG⟩ := H
  rcases hq with z | ⟨-, z⟩ | z | ⟨-, z⟩ | z | ⟨i, hi, z⟩
  · exact ⟨_, by rw [z]; exact A.1, Or.inl ⟨_, rfl⟩⟩
  · exact ⟨_, by rw [z]; exact A.2.1, Or.inr (Or.inl ⟨_, _, rfl⟩)⟩
  · exact ⟨_, by rw [z]; exact At.1, Or.inl ⟨_, rfl⟩⟩
  · exact ⟨_, by rw [z]; exact At.2.1, Or.inr (Or.inl ⟨_, _, rfl⟩)⟩
  · exact ⟨_, by rw [z]; exact hg, Or.inr (Or.inr (Or.inr ⟨_, rfl⟩))⟩
  · obtain ⟨⟨k, e1, -⟩, -, fi, Ai, -⟩ := M i hi
    rcases z with z | z | z
    · exact ⟨_, by rw [z]; exact e1, Or.inr (Or.inr (Or.inl ⟨_, rfl⟩))⟩
    · exact ⟨_, by rw [z]; exact Ai.1, Or.inl ⟨_, rfl⟩⟩
    · exact ⟨_, by rw [z]; exact Ai.2.1, Or.inr (Or.inl ⟨_, _, rfl⟩)⟩
/-- an array of another kind is put anew -/
theorem isX.arr {w : Wd} {h h' : Hp} {x o kd n : Nat} {g : Nat → Value} {X : XL} {σ : Sg} (hk : kd = 2 ∨ kd = 3) (ho : h.2 o = some (.inr (kd, n, g))) (U : Upd h h' [o]) (H : isX w h x X σ) : isX w h' x X σ := by
  have oo : ∀ (q : Nat) (v : Nat × List Value), h.2 q = some (.inl v) → h'.2 q = some (.inl v) := fun q v e => U.2 _ _ e (by simpa using ne_cel e ho ne_ao)
  have aa : ∀ (q k m : Nat) (v : Nat → Value), h.2 q = some (.inr (k, m, v)) → k ≠ 2 → k ≠ 3 → h'.2 q = some (.inr (k, m, v)) := fun q k m v e e2 e3 => U.2 _ _ e (by simpa using ne_cel e ho (ne_knd (by omega)))
  have ll : ∀ {l ar n cap : Nat} {f : Int → Option Nat}, isAL w h l ar n cap f → isAL w h' l ar n cap f := fun A => ⟨oo _ _ A.1, aa _ _ _ _ A.2.1 (by decide) (by decide), A.2.2⟩
  obtain ⟨hX, ⟨f, A, F⟩, ⟨ft, At, Ft⟩, hg, M, TG⟩ := H
  refine ⟨oo _ _ hX, ⟨f, ll A, F⟩, ⟨ft, ll At, Ft⟩, oo _ _ hg, fun i hi => ?_, fun i hi => ?_⟩
  · obtain ⟨⟨k, e1, e2⟩, g1, fi, Ai, g5⟩ := M i hi
    refine ⟨⟨k, oo _ _ e1, oo _ _ e2⟩, oo _ _ g1, fi, ll Ai, fun j j0 j1 => ?_⟩
    obtain ⟨p, e3, e4⟩ := g5 j j0 j1
    refine ⟨p, e3, ?_⟩
    cases hr : (σ.ms i).1.2 j with
    | none => rw [hr] at e4; exact oo _ _ e4
    | some r =>
      rw [hr] at e4
      obtain ⟨b, e5, e6⟩ := e4
      exact ⟨b, oo _ _ e5, oo _ _ e6⟩
  · obtain ⟨e1, f, e2, e3⟩ := TG i hi
    exact ⟨oo _ _ e1, f, aa _ _ _ _ e2 (by decide) (by decide), e3⟩
/-- the component has gone on, the answer lies at o -/
def stepO (w : Wd) (h h' : Hp) (x : Nat) (X : XL) (σ σ' : Sg) (o : Nat) : Prop := ∃ X' : XL, isX w h' x X' σ' ∧ sepX X' σ'.n σ'.k ∧ UpdP h h' (fun q => ownX X σ.n q ∨ q = o) ∧ ∀ q, ownX X' σ'.n q → ownX X σ.n q ∨ h.2 q = none
theorem stepX.out {w : Wd} {h h1 : Hp} {x o kd n : Nat} {g : Nat → Value} {X : XL} {σ σ' : Sg} (H : isX w h x X σ) (hk : kd = 2 ∨ kd = 3) (ho : h.2 o = some (.inr (kd, n, g))) (T : stepX w h h1 x X σ σ') : h1.2 o = some (.inr (kd, n, g)) := by
  obtain ⟨X', t1, t2, t3, t4⟩ := T
  refine t3.2 _ _ ho (fun hq => ?_)
  obtain ⟨c, e, hc⟩ := ownX_cel H hq
  rw [ho] at e
  rcases hc with ⟨v, z⟩ | ⟨n, v, z⟩ | ⟨v, z⟩ | ⟨v, z⟩ <;> rw [z] at e <;> injection e with e <;> first | (cases e; done) | (injection e with e; injection e with e e2; omega)
theorem stepX.put {w : Wd} {h h1 h2 : Hp} {x o kd n : Nat} {g g' : Nat → Value} {X : XL} {σ σ' : Sg} (hk : kd = 2 ∨ kd = 3) (ho : h1.2 o = some (.inr (kd, n, g))) (P : Put h1 h2 o (.inr (kd, n, g'))) (T : stepX w h h1 x X σ σ') : stepO w h h2 x X σ σ' o := by
  obtain ⟨X', t1, t2, t3, t4⟩ := T
  exact ⟨X', t1.arr hk ho P.upd, t2, ⟨Nat.le_trans t3.1 (Nat.le_of_eq P.1.symm), fun q c e hq => P.2.2 _ _ (t3.2 _ _ e (fun z => hq (Or.inl z))) (fun z => hq (Or.inr z))⟩, t4⟩
theorem same_stepO {w : Wd} {h h' : Hp} {x o : Nat} {X : XL} {σ : Sg} (H : isX w h x X σ) (hsep : sepX X σ.n σ.k) (E : Ext h h') : stepO w h h' x X σ σ o := ⟨X, H.ext E, hsep, E.updP _, fun _ hy => Or.inl hy⟩
/-- the end of a wrapper: its number, the answer -/
def wPost (w : Wd) (h : Hp) (x : Nat) (X : XL) (σ : Sg) (o : Nat) (K : Nat) (val : Int) (σ' : Sg) : Option Value → Hp → Prop := fun v h' => v = some (jI (K : Nat)) ∧ (∃ g, h'.2 o = some (.inr (2, 1, g)) ∧ (K = 0 → g 0 = .long (iL val))) ∧ stepO w h h' x X σ (if K = 0 then σ' else σ) o
theorem w_machine {w : Wd} {h : Hp} {x o : Nat} {X : XL} {σ : Sg} {p0 : Int} {g : Nat → Value} (H : isX w h x X σ) (hsep : sepX X σ.n σ.k) (hσ : SgOk σ) (i0 : i32 p0) (ho : h.2 o = some (.inr (2, 1, g))) : Ct w yX0_machine (wsW_ yX0_machine cX0_machine 4 (some FieldType.int) [(0, 9, 12, 13), (0, 9, 15, 15)]) 11 263 8 60 [.ref x, jI p0, .ref o] h (wPost w h x X σ o (machK σ p0) (σ.n : Nat) (addM σ ((p0.toNat, fun _ => none), none, -1, -1))) NoX := by
  have hX := H.1
  refine Ct.ofH (by decide) [some (.ref x), some (jI p0), some (.ref o), none] rfl (Nat.le_of_ble_eq_true rfl) (fun K C E N0 => ?_)
  generalize hK : machK σ p0 = K0 at *
  refine k_aload_n C dX0_machine_0 rfl ?_
  refine k_iconst C dX0_machine_1 ?_
  refine k_aload_n C dX0_machine_2 rfl ?_
  refine k_iload_n C dX0_machine_3 rfl ?_
  refine kx_V C rfl mv_X0_7 dX0_machine_4 ((c_machineX H hsep hσ i0)) (by assumption) rfl rfl (Nat.le_of_ble_eq_true rfl) ⟨(Nat.le_of_ble_eq_true rfl), (Nat.le_of_ble_eq_true rfl)⟩ (by omega) (fun v h1 hp_ => ?_) (fun E1 h1 hx => ?_)
  obtain ⟨hk, rfl, ST⟩ := hp_
  · have st := ST
    rw [hK] at hk
    subst hk
    have ho1 := stepX.out H (Or.inl rfl) ho st
    refine k_i2l C dX0_machine_7 ?_
    refine k_last C dX0_machine_8 ho1 (by decide) (fun h2 P2 => ?_)
    refine k_goto C dX0_machine_9 (tgt := 18) (by decide) ?_
    refine k_iconst C dX0_machine_18 ?_
    exact k_iret C E dX0_machine_19 (by omega) ⟨rfl, ⟨_, P2.2.1, fun _ => rfl⟩, by rw [if_pos rfl]; exact st.put (Or.inl rfl) ho1 P2⟩
  · obtain ⟨⟨e0, e1⟩, e2⟩ := hx
    rw [hK] at e0 e1
    obtain rfl | rfl : K0 = 1 ∨ K0 = 2 := by
      have : K0 - 1 < 2 := (List.getElem?_eq_some_iff.mp e1).1
      omega
    · cases Option.some.inj (show some sIAE = some _ from e1)
      refine x_hand (hh := [(0, 9, 12, 13), (0, 9, 15, 15)]) (nx := sIAE) C N0 [] ⟨0, 9, 12, 13⟩ [⟨0, 9, 15, 15⟩] rfl (fun z hz => by cases hz) (by decide) (by decide) q669 q230 (fun q => ?_)
      refine k_astore_n C dX0_machine_12 (Nat.le_of_ble_eq_true rfl) rfl ?_
      refine k_iconst C dX0_machine_13 ?_
      exact k_iret C E dX0_machine_14 (by omega) ⟨rfl, ⟨_, e2.2 _ _ ho, fun z => by cases z⟩, by rw [if_neg (by decide)]; exact same_stepO H hsep e2⟩
    · cases Option.some.inj (show some sISE = some _ from e1)
      refine x_hand (hh := [(0, 9, 12, 13), (0, 9, 15, 15)]) (nx := sISE) C N0 [⟨0, 9, 12, 13⟩] ⟨0, 9, 15, 15⟩ [] rfl (fun z hz => Or.inr (by
          simp at hz
          subst hz
          exact ⟨by decide, _, q669, by decide⟩)) (by decide) (by decide) q670 q680 (fun q => ?_)
      refine k_astore_n C dX0_machine_15 (Nat.le_of_ble_eq_true rfl) rfl ?_
      refine k_iconst C dX0_machine_16 ?_
      exact k_iret C E dX0_machine_17 (by omega) ⟨rfl, ⟨_, e2.2 _ _ ho, fun z => by cases z⟩, by rw [if_neg (by decide)]; exact same_stepO H hsep e2⟩
theorem w_tell {w : Wd} {h : Hp} {x o : Nat} {X : XL} {σ : Sg} {p0 p1 p2 p3 p4 p5 : Int} {g : Nat → Value} (H : isX w h x X σ) (hsep : sepX X σ.n σ.k) (hσ : SgOk σ) (i0 : i32 p0) (i1 : i32 p1) (i2 : i32 p2) (i3 : i32 p3) (i4 : i32 p4) (i5 : i32 p5) (ho : h.2 o = some (.inr (2, 1, g))) : Ct w yX0_tell (wsW_ yX0_tell cX0_tell 9 (some FieldType.int) [(0, 18, 21, 21), (0, 18, 25, 13), (0, 18, 29, 15)]) 12 294 9 46 [.ref x, jI p0, jI p1, jI p2, jI p3, jI p4, jI p5, .ref o] h (wPost w h x X σ o (refK σ p0 p1 p2 p3 p4 p5 true) (cntE (amdM (σ.ms p0.toNat) (2 * p1 + p2) (p3, p4, p5)).1 (2 * (σ.ms p0.toNat).1.1)) (putG σ p0.toNat (amdM (σ.ms p0.toNat) (2 * p1 + p2) (p3, p4, p5)) σ.tk σ.rf (σ.bk + (if (σ.ms p0.toNat).2.1.isSome then 1 else 0)))) NoX := by
  have hX := H.1
  refine Ct.ofH (by decide) [some (.ref x), some (jI p0), some (jI p1), some (jI p2), some (jI p3), some (jI p4), some (jI p5), some (.ref o), none] rfl (Nat.le_of_ble_eq_true rfl) (fun K C E N0 => ?_)
  generalize hK : refK σ p0 p1 p2 p3 p4 p5 true = K0 at *
  refine k_aload C dX0_tell_0 rfl ?_
  refine k_iconst C dX0_tell_2 ?_
  refine k_aload_n C dX0_tell_3 rfl ?_
  refine k_iload_n C dX0_tell_4 rfl ?_
  refine k_iload_n C dX0_tell_5 rfl ?_
  refine k_iload_n C dX0_tell_6 rfl ?_
  refine k_iload C dX0_tell_7 rfl ?_
  refine k_iload C dX0_tell_9 rfl ?_
  refine k_iload C dX0_tell_11 rfl ?_
  refine kx_V C rfl mv_X0_17 dX0_tell_13 ((c_tellX H hsep hσ i0 i1 i2 i3 i4 i5)) (by assumption) rfl rfl (Nat.le_of_ble_eq_true rfl) ⟨(Nat.le_of_ble_eq_true rfl), (Nat.le_of_ble_eq_true rfl)⟩ (by omega) (fun v h1 hp_ => ?_) (fun E1 h1 hx => ?_)
  obtain ⟨hk, rfl, ST⟩ := hp_
  · have st := ST
    rw [hK] at hk
    subst hk
    have ho1 := stepX.out H (Or.inl rfl) ho st
    refine k_i2l C dX0_tell_16 ?_
    refine k_last C dX0_tell_17 ho1 (by decide) (fun h2 P2 => ?_)
    refine k_goto C dX0_tell_18 (tgt := 33) (by decide) ?_
    refine k_iconst C dX0_tell_33 ?_
    exact k_iret C E dX0_tell_34 (by omega) ⟨rfl, ⟨_, P2.2.1, fun _ => rfl⟩, by rw [if_pos rfl]; exact st.put (Or.inl rfl) ho1 P2⟩
  · obtain ⟨⟨e0, e1⟩, e2⟩ := hx
    rw [hK] at e0 e1
    obtain rfl | rfl | rfl : K0 = 1 ∨ K0 = 2 ∨ K0 = 3 := by
      have : K0 - 1 < 3 := (List.getElem?_eq_some_iff.mp e1).1
      omega
    · cases Option.some.inj (show some sIOB = some _ from e1)
      refine x_hand (hh := [(0, 18, 21, 21), (0, 18, 25, 13), (0, 18, 29, 15)]) (nx := sIOB) C N0 [] ⟨0, 18, 21, 21⟩ [⟨0, 18, 25, 13⟩, ⟨0, 18, 29, 15⟩] rfl (fun z hz => by cases hz) (by decide) (by decide) q739 q789 (fun q => ?_)
      refine k_astore C dX0_tell_21 (Nat.le_of_ble_eq_true rfl) rfl ?_
      refine k_iconst C dX0_tell_23 ?_
      exact k_iret C E dX0_tell_24 (by omega) ⟨rfl, ⟨_, e2.2 _ _ ho, fun z => by cases z⟩, by rw [if_neg (by decide)]; exact same_stepO H hsep e2⟩
    · cases Option.some.inj (show some sIAE = some _ from e1)
      refine x_hand (hh := [(0, 18, 21, 21), (0, 18, 25, 13), (0, 18, 29, 15)]) (nx := sIAE) C N0 [⟨0, 18, 21, 21⟩] ⟨0, 18, 25, 13⟩ [⟨0, 18, 29, 15⟩] rfl (fun z hz => Or.inr (by
          simp at hz
          subst hz
          exact ⟨by decide, _, q739, by decide⟩)) (by decide) (by decide) q669 q230 (fun q => ?_)
      refine k_astore C dX0_tell_25 (Nat.le_of_ble_eq_true rfl) rfl ?_
      refine k_iconst C dX0_tell_27 ?_
      exact k_iret C E dX0_tell_28 (by omega) ⟨rfl, ⟨_, e2.2 _ _ ho, fun z => by cases z⟩, by rw [if_neg (by decide)]; exact same_stepO H hsep e2⟩
    · cases Option.some.inj (show some sISE = some _ from e1)
      refine x_hand (hh := [(0, 18, 21, 21), (0, 18, 25, 13), (0, 18, 29, 15)]) (nx := sISE) C N0 [⟨0, 18, 21, 21⟩, ⟨0, 18, 25, 13⟩] ⟨0, 18, 29, 15⟩ [] rfl (fun z hz => Or.inr (by
          simp at hz
          rcases hz with rfl | rfl
          · exact ⟨by decide, _, q739, by decide⟩
          · exact ⟨by decide, _, q669, by decide⟩)) (by decide) (by decide) q670 q680 (fun q => ?_)
      refine k_astore C dX0_tell_29 (Nat.le_of_ble_eq_true rfl) rfl ?_
      refine k_iconst C dX0_tell_31 ?_
      exact k_iret C E dX0_tell_32 (by omega) ⟨rfl, ⟨_, e2.2 _ _ ho, fun z => by cases z⟩, by rw [if_neg (by decide)]; exact same_stepO H hsep e2⟩
theorem w_amend {w : Wd} {h : Hp} {x o : Nat} {X : XL} {σ : Sg} {p0 p1 p2 p3 p4 p5 : Int} {g : Nat → Value} (H : isX w h x X σ) (hsep : sepX X σ.n σ.k) (hσ : SgOk σ) (i0 : i32 p0) (i1 : i32 p1) (i2 : i32 p2) (i3 : i32 p3) (i4 : i32 p4) (i5 : i32 p5) (ho : h.2 o = some (.inr (2, 1, g))) : Ct w yX0_amend (wsW_ yX0_amend cX0_amend 9 (some FieldType.int) [(0, 25, 28, 21), (0, 25, 32, 13), (0, 25, 36, 15)]) 12 294 9 46 [.ref x, jI p0, jI p1, jI p2, jI p3, jI p4, jI p5, .ref o] h (wPost w h x X σ o (refK σ p0 p1 p2 p3 p4 p5 false) (b2i (σ.ms p0.toNat).2.1.isSome) (putG σ p0.toNat (amdM (σ.ms p0.toNat) (2 * p1 + p2) (p3, p4, p5)) σ.tk σ.rf (σ.bk + (if (σ.ms p0.toNat).2.1.isSome then 1 else 0)))) NoX := by
  have hX := H.1
  refine Ct.ofH (by decide) [some (.ref x), some (jI p0), some (jI p1), some (jI p2), some (jI p3), some (jI p4), some (jI p5), some (.ref o), none] rfl (Nat.le_of_ble_eq_true rfl) (fun K C E N0 => ?_)
  generalize hK : refK σ p0 p1 p2 p3 p4 p5 false = K0 at *
  refine k_aload C dX0_amend_0 rfl ?_
  refine k_iconst C dX0_amend_2 ?_
  refine k_aload_n C dX0_amend_3 rfl ?_
  refine k_iload_n C dX0_amend_4 rfl ?_
  refine k_iload_n C dX0_amend_5 rfl ?_
  refine k_iload_n C dX0_amend_6 rfl ?_
  refine k_iload C dX0_amend_7 rfl ?_
  refine k_iload C dX0_amend_9 rfl ?_
  refine k_iload C dX0_amend_11 rfl ?_
  refine kx_V C rfl mv_X0_23 dX0_amend_13 ((c_amendX H hsep hσ i0 i1 i2 i3 i4 i5)) (by assumption) rfl rfl (Nat.le_of_ble_eq_true rfl) ⟨(Nat.le_of_ble_eq_true rfl), (Nat.le_of_ble_eq_true rfl)⟩ (by omega) (fun v h1 hp_ => ?_) (fun E1 h1 hx => ?_)
  obtain ⟨hk, rfl, ST⟩ := hp_
  · have st := ST
    rw [hK] at hk
    subst hk
    have ho1 := stepX.out H (Or.inl rfl) ho st
    generalize hbb : (σ.ms p0.toNat).2.1.isSome = bb at *
    cases bb with
    | false =>
      refine k_ifeq_b C dX0_amend_16 (tgt := 23) (by decide) (fun _ => ?_) (fun z => by cases z)
      refine k_lconst C dX0_amend_23 (v := 0) rfl ?_
      refine k_last C dX0_amend_24 ho1 (by decide) (fun h2 P2 => ?_)
      refine k_goto C dX0_amend_25 (tgt := 40) (by decide) ?_
      refine k_iconst C dX0_amend_40 ?_
      exact k_iret C E dX0_amend_41 (by omega) ⟨rfl, ⟨_, P2.2.1, fun _ => rfl⟩, by rw [if_pos rfl]; exact st.put (Or.inl rfl) ho1 P2⟩
    | true =>
      refine k_ifeq_b C dX0_amend_16 (tgt := 23) (by decide) (fun z => by cases z) (fun _ => ?_)
      refine k_lconst C dX0_amend_19 (v := 1) rfl ?_
      refine k_goto C dX0_amend_20 (tgt := 24) (by decide) ?_
      refine k_last C dX0_amend_24 ho1 (by decide) (fun h2 P2 => ?_)
      refine k_goto C dX0_amend_25 (tgt := 40) (by decide) ?_
      refine k_iconst C dX0_amend_40 ?_
      exact k_iret C E dX0_amend_41 (by omega) ⟨rfl, ⟨_, P2.2.1, fun _ => rfl⟩, by rw [if_pos rfl]; exact st.put (Or.inl rfl) ho1 P2⟩
  · obtain ⟨⟨e0, e1⟩, e2⟩ := hx
    rw [hK] at e0 e1
    obtain rfl | rfl | rfl : K0 = 1 ∨ K0 = 2 ∨ K0 = 3 := by
      have : K0 - 1 < 3 := (List.getElem?_eq_some_iff.mp e1).1
      omega
    · cases Option.some.inj (show some sIOB = some _ from e1)
      refine x_hand (hh := [(0, 25, 28, 21), (0, 25, 32, 13), (0, 25, 36, 15)]) (nx := sIOB) C N0 [] ⟨0, 25, 28, 21⟩ [⟨0, 25, 32, 13⟩, ⟨0, 25, 36, 15⟩] rfl (fun z hz => by cases hz) (by decide) (by decide) q739 q789 (fun q => ?_)
      refine k_astore C dX0_amend_28 (Nat.le_of_ble_eq_true rfl) rfl ?_
      refine k_iconst C dX0_amend_30 ?_
      exact k_iret C E dX0_amend_31 (by omega) ⟨rfl, ⟨_, e2.2 _ _ ho, fun z => by cases z⟩, by rw [if_neg (by decide)]; exact same_stepO H hsep e2⟩
    · cases Option.some.inj (show some sIAE = some _ from e1)
      refine x_hand (hh := [(0, 25, 28, 21), (0, 25, 32, 13), (0, 25, 36, 15)]) (nx := sIAE) C N0 [⟨0, 25, 28, 21⟩] ⟨0, 25, 32, 13⟩ [⟨0, 25, 36, 15⟩] rfl (fun z hz => Or.inr (by
          simp at hz
          subst hz
          exact ⟨by decide, _, q739, by decide⟩)) (by decide) (by decide) q669 q230 (fun q => ?_)
      refine k_astore C dX0_amend_32 (Nat.le_of_ble_eq_true rfl) rfl ?_
      refine k_iconst C dX0_amend_34 ?_
      exact k_iret C E dX0_amend_35 (by omega) ⟨rfl, ⟨_, e2.2 _ _ ho, fun z => by cases z⟩, by rw [if_neg (by decide)]; exact same_stepO H hsep e2⟩
    · cases Option.some.inj (show some sISE = some _ from e1)
      refine x_hand (hh := [(0, 25, 28, 21), (0, 25, 32, 13), (0, 25, 36, 15)]) (nx := sISE) C N0 [⟨0, 25, 28, 21⟩, ⟨0, 25, 32, 13⟩] ⟨0, 25, 36, 15⟩ [] rfl (fun z hz => Or.inr (by
          simp at hz
          rcases hz with rfl | rfl
          · exact ⟨by decide, _, q739, by decide⟩
          · exact ⟨by decide, _, q669, by decide⟩)) (by decide) (by decide) q670 q680 (fun q => ?_)
      refine k_astore C dX0_amend_36 (Nat.le_of_ble_eq_true rfl) rfl ?_
      refine k_iconst C dX0_amend_38 ?_
      exact k_iret C E dX0_amend_39 (by omega) ⟨rfl, ⟨_, e2.2 _ _ ho, fun z => by cases z⟩, by rw [if_neg (by decide)]; exact same_stepO H hsep e2⟩
theorem w_child {w : Wd} {h : Hp} {x o : Nat} {X : XL} {σ : Sg} {p0 p1 : Int} {g : Nat → Value} (H : isX w h x X σ) (hsep : sepX X σ.n σ.k) (hσ : SgOk σ) (i0 : i32 p0) (i1 : i32 p1) (ho : h.2 o = some (.inr (2, 1, g))) : Ct w yX0_child (wsW_ yX0_child cX0_child 5 (some FieldType.int) [(0, 10, 13, 21), (0, 10, 17, 13), (0, 10, 21, 15)]) 11 282 12 1070 [.ref x, jI p0, jI p1, .ref o] h (wPost w h x X σ o (childK σ p0 p1) (σ.n : Nat) (addM σ (childT (σ.ms p0.toNat).1 p1, none, -1, -1))) NoX := by
  have hX := H.1
  refine Ct.ofH (by decide) [some (.ref x), some (jI p0), some (jI p1), some (.ref o), none] rfl (Nat.le_of_ble_eq_true rfl) (fun K C E N0 => ?_)
  generalize hK : childK σ p0 p1 = K0 at *
  refine k_aload_n C dX0_child_0 rfl ?_
  refine k_iconst C dX0_child_1 ?_
  refine k_aload_n C dX0_child_2 rfl ?_
  refine k_iload_n C dX0_child_3 rfl ?_
  refine k_iload_n C dX0_child_4 rfl ?_
  refine kx_V C rfl mv_X0_27 dX0_child_5 ((c_childX H hsep hσ i0 i1)) (by assumption) rfl rfl (Nat.le_of_ble_eq_true rfl) ⟨(Nat.le_of_ble_eq_true rfl), (Nat.le_of_ble_eq_true rfl)⟩ (by omega) (fun v h1 hp_ => ?_) (fun E1 h1 hx => ?_)
  obtain ⟨hk, rfl, ST⟩ := hp_
  · have st := ST
    rw [hK] at hk
    subst hk
    have ho1 := stepX.out H (Or.inl rfl) ho st
    refine k_i2l C dX0_child_8 ?_
    refine k_last C dX0_child_9 ho1 (by decide) (fun h2 P2 => ?_)
    refine k_goto C dX0_child_10 (tgt := 25) (by decide) ?_
    refine k_iconst C dX0_child_25 ?_
    exact k_iret C E dX0_child_26 (by omega) ⟨rfl, ⟨_, P2.2.1, fun _ => rfl⟩, by rw [if_pos rfl]; exact st.put (Or.inl rfl) ho1 P2⟩
  · obtain ⟨⟨e0, e1⟩, e2⟩ := hx
    rw [hK] at e0 e1
    obtain rfl | rfl | rfl : K0 = 1 ∨ K0 = 2 ∨ K0 = 3 := by
      have : K0 - 1 < 3 := (List.getElem?_eq_some_iff.mp e1).1
      omega
    · cases Option.some.inj (show some sIOB = some _ from e1)
      refine x_hand (hh := [(0, 10, 13, 21), (0, 10, 17, 13), (0, 10, 21, 15)]) (nx := sIOB) C N0 [] ⟨0, 10, 13, 21⟩ [⟨0, 10, 17, 13⟩, ⟨0, 10, 21, 15⟩] rfl (fun z hz => by cases hz) (by decide) (by decide) q739 q789 (fun q => ?_)
      refine k_astore C dX0_child_13 (Nat.le_of_ble_eq_true rfl) rfl ?_
      refine k_iconst C dX0_child_15 ?_
      exact k_iret C E dX0_child_16 (by omega) ⟨rfl, ⟨_, e2.2 _ _ ho, fun z => by cases z⟩, by rw [if_neg (by decide)]; exact same_stepO H hsep e2⟩
    · cases Option.some.inj (show some sIAE = some _ from e1)
      refine x_hand (hh := [(0, 10, 13, 21), (0, 10, 17, 13), (0, 10, 21, 15)]) (nx := sIAE) C N0 [⟨0, 10, 13, 21⟩] ⟨0, 10, 17, 13⟩ [⟨0, 10, 21, 15⟩] rfl (fun z hz => Or.inr (by
          simp at hz
          subst hz
          exact ⟨by decide, _, q739, by decide⟩)) (by decide) (by decide) q669 q230 (fun q => ?_)
      refine k_astore C dX0_child_17 (Nat.le_of_ble_eq_true rfl) rfl ?_
      refine k_iconst C dX0_child_19 ?_
      exact k_iret C E dX0_child_20 (by omega) ⟨rfl, ⟨_, e2.2 _ _ ho, fun z => by cases z⟩, by rw [if_neg (by decide)]; exact same_stepO H hsep e2⟩
    · cases Option.some.inj (show some sISE = some _ from e1)
      refine x_hand (hh := [(0, 10, 13, 21), (0, 10, 17, 13), (0, 10, 21, 15)]) (nx := sISE) C N0 [⟨0, 10, 13, 21⟩, ⟨0, 10, 17, 13⟩] ⟨0, 10, 21, 15⟩ [] rfl (fun z hz => Or.inr (by
          simp at hz
          rcases hz with rfl | rfl
          · exact ⟨by decide, _, q739, by decide⟩
          · exact ⟨by decide, _, q669, by decide⟩)) (by decide) (by decide) q670 q680 (fun q => ?_)
      refine k_astore C dX0_child_21 (Nat.le_of_ble_eq_true rfl) rfl ?_
      refine k_iconst C dX0_child_23 ?_
      exact k_iret C E dX0_child_24 (by omega) ⟨rfl, ⟨_, e2.2 _ _ ho, fun z => by cases z⟩, by rw [if_neg (by decide)]; exact same_stepO H hsep e2⟩
theorem w_tag {w : Wd} {h : Hp} {x o : Nat} {X : XL} {σ : Sg} {p0 p1 p2 : Int} {g : Nat → Value} (H : isX w h x X σ) (hsep : sepX X σ.n σ.k) (hσ : SgOk σ) (i0 : i32 p0) (i1 : i32 p1) (i2 : i32 p2) (ho : h.2 o = some (.inr (2, 1, g))) : Ct w yX0_tag (wsW_ yX0_tag cX0_tag 6 (some FieldType.int) [(0, 12, 15, 13), (0, 12, 19, 15)]) 11 265 7 48 [.ref x, jI p0, jI p1, jI p2, .ref o] h (wPost w h x X σ o (tgK σ p0 p1 p2) (σ.k : Nat) (addT σ (p0.toNat, p1.toNat, p2.toNat))) NoX := by
  have hX := H.1
  refine Ct.ofH (by decide) [some (.ref x), some (jI p0), some (jI p1), some (jI p2), some (.ref o), none] rfl (Nat.le_of_ble_eq_true rfl) (fun K C E N0 => ?_)
  generalize hK : tgK σ p0 p1 p2 = K0 at *
  refine k_aload C dX0_tag_0 rfl ?_
  refine k_iconst C dX0_tag_2 ?_
  refine k_aload_n C dX0_tag_3 rfl ?_
  refine k_iload_n C dX0_tag_4 rfl ?_
  refine k_iload_n C dX0_tag_5 rfl ?_
  refine k_iload_n C dX0_tag_6 rfl ?_
  refine kx_V C rfl mv_X0_31 dX0_tag_7 ((c_tagX H hsep hσ i0 i1 i2)) (by assumption) rfl rfl (Nat.le_of_ble_eq_true rfl) ⟨(Nat.le_of_ble_eq_true rfl), (Nat.le_of_ble_eq_true rfl)⟩ (by omega) (fun v h1 hp_ => ?_) (fun E1 h1 hx => ?_)
  obtain ⟨hk, rfl, ST⟩ := hp_
  · have st := ST
    rw [hK] at hk
    subst hk
    have ho1 := stepX.out H (Or.inl rfl) ho st
    refine k_i2l C dX0_tag_10 ?_
    refine k_last C dX0_tag_11 ho1 (by decide) (fun h2 P2 => ?_)
    refine k_goto C dX0_tag_12 (tgt := 23) (by decide) ?_
    refine k_iconst C dX0_tag_23 ?_
    exact k_iret C E dX0_tag_24 (by omega) ⟨rfl, ⟨_, P2.2.1, fun _ => rfl⟩, by rw [if_pos rfl]; exact st.put (Or.inl rfl) ho1 P2⟩
  · obtain ⟨⟨e0, e1⟩, e2⟩ := hx
    rw [hK] at e0 e1
    obtain rfl | rfl : K0 = 1 ∨ K0 = 2 := by
      have : K0 - 1 < 2 := (List.getElem?_eq_some_iff.mp e1).1
      omega
    · cases Option.some.inj (show some sIAE = some _ from e1)
      refine x_hand (hh := [(0, 12, 15, 13), (0, 12, 19, 15)]) (nx := sIAE) C N0 [] ⟨0, 12, 15, 13⟩ [⟨0, 12, 19, 15⟩] rfl (fun z hz => by cases hz) (by decide) (by decide) q669 q230 (fun q => ?_)
      refine k_astore C dX0_tag_15 (Nat.le_of_ble_eq_true rfl) rfl ?_
      refine k_iconst C dX0_tag_17 ?_
      exact k_iret C E dX0_tag_18 (by omega) ⟨rfl, ⟨_, e2.2 _ _ ho, fun z => by cases z⟩, by rw [if_neg (by decide)]; exact same_stepO H hsep e2⟩
    · cases Option.some.inj (show some sISE = some _ from e1)
      refine x_hand (hh := [(0, 12, 15, 13), (0, 12, 19, 15)]) (nx := sISE) C N0 [⟨0, 12, 15, 13⟩] ⟨0, 12, 19, 15⟩ [] rfl (fun z hz => Or.inr (by
          simp at hz
          subst hz
          exact ⟨by decide, _, q669, by decide⟩)) (by decide) (by decide) q670 q680 (fun q => ?_)
      refine k_astore C dX0_tag_19 (Nat.le_of_ble_eq_true rfl) rfl ?_
      refine k_iconst C dX0_tag_21 ?_
      exact k_iret C E dX0_tag_22 (by omega) ⟨rfl, ⟨_, e2.2 _ _ ho, fun z => by cases z⟩, by rw [if_neg (by decide)]; exact same_stepO H hsep e2⟩
theorem w_prove {w : Wd} {h : Hp} {x o : Nat} {X : XL} {σ : Sg} {p0 p1 p2 p3 : Int} {g : Nat → Value} (H : isX w h x X σ) (hsep : sepX X σ.n σ.k) (hσ : SgOk σ) (i0 : i32 p0) (i1 : i32 p1) (i2 : i32 p2) (i3 : i32 p3) (ho : h.2 o = some (.inr (2, 1, g))) : Ct w yX0_prove (wsW_ yX0_prove cX0_prove 7 (some FieldType.int) [(0, 21, 24, 21), (0, 21, 28, 13), (0, 21, 32, 15)]) 12 10550 999 7304 [.ref x, jI p0, jI p1, jI p2, jI p3, .ref o] h (wPost w h x X σ o (prvK σ p0 p1 p2 p3) (b2i (takenB (σ.ms p0.toNat).1 p1 p2 p3)) (prvG σ p0.toNat p1 p2 p3)) NoX := by
  have hX := H.1
  refine Ct.ofH (by decide) [some (.ref x), some (jI p0), some (jI p1), some (jI p2), some (jI p3), some (.ref o), none] rfl (Nat.le_of_ble_eq_true rfl) (fun K C E N0 => ?_)
  generalize hK : prvK σ p0 p1 p2 p3 = K0 at *
  refine k_aload C dX0_prove_0 rfl ?_
  refine k_iconst C dX0_prove_2 ?_
  refine k_aload_n C dX0_prove_3 rfl ?_
  refine k_iload_n C dX0_prove_4 rfl ?_
  refine k_iload_n C dX0_prove_5 rfl ?_
  refine k_iload_n C dX0_prove_6 rfl ?_
  refine k_iload C dX0_prove_7 rfl ?_
  refine kx_V C rfl mv_X0_35 dX0_prove_9 ((c_proveX H hsep hσ i0 i1 i2 i3)) (by assumption) rfl rfl (Nat.le_of_ble_eq_true rfl) ⟨(Nat.le_of_ble_eq_true rfl), (Nat.le_of_ble_eq_true rfl)⟩ (by omega) (fun v h1 hp_ => ?_) (fun E1 h1 hx => ?_)
  obtain ⟨hk, rfl, ST⟩ := hp_
  · have st := ST
    rw [hK] at hk
    subst hk
    have ho1 := stepX.out H (Or.inl rfl) ho st
    generalize hbb : (takenB (σ.ms p0.toNat).1 p1 p2 p3) = bb at *
    cases bb with
    | false =>
      refine k_ifeq_b C dX0_prove_12 (tgt := 19) (by decide) (fun _ => ?_) (fun z => by cases z)
      refine k_lconst C dX0_prove_19 (v := 0) rfl ?_
      refine k_last C dX0_prove_20 ho1 (by decide) (fun h2 P2 => ?_)
      refine k_goto C dX0_prove_21 (tgt := 36) (by decide) ?_
      refine k_iconst C dX0_prove_36 ?_
      exact k_iret C E dX0_prove_37 (by omega) ⟨rfl, ⟨_, P2.2.1, fun _ => rfl⟩, by rw [if_pos rfl]; exact st.put (Or.inl rfl) ho1 P2⟩
    | true =>
      refine k_ifeq_b C dX0_prove_12 (tgt := 19) (by decide) (fun z => by cases z) (fun _ => ?_)
      refine k_lconst C dX0_prove_15 (v := 1) rfl ?_
      refine k_goto C dX0_prove_16 (tgt := 20) (by decide) ?_
      refine k_last C dX0_prove_20 ho1 (by decide) (fun h2 P2 => ?_)
      refine k_goto C dX0_prove_21 (tgt := 36) (by decide) ?_
      refine k_iconst C dX0_prove_36 ?_
      exact k_iret C E dX0_prove_37 (by omega) ⟨rfl, ⟨_, P2.2.1, fun _ => rfl⟩, by rw [if_pos rfl]; exact st.put (Or.inl rfl) ho1 P2⟩
  · obtain ⟨⟨e0, e1⟩, e2⟩ := hx
    rw [hK] at e0 e1
    obtain rfl | rfl | rfl : K0 = 1 ∨ K0 = 2 ∨ K0 = 3 := by
      have : K0 - 1 < 3 := (List.getElem?_eq_some_iff.mp e1).1
      omega
    · cases Option.some.inj (show some sIOB = some _ from e1)
      refine x_hand (hh := [(0, 21, 24, 21), (0, 21, 28, 13), (0, 21, 32, 15)]) (nx := sIOB) C N0 [] ⟨0, 21, 24, 21⟩ [⟨0, 21, 28, 13⟩, ⟨0, 21, 32, 15⟩] rfl (fun z hz => by cases hz) (by decide) (by decide) q739 q789 (fun q => ?_)
      refine k_astore C dX0_prove_24 (Nat.le_of_ble_eq_true rfl) rfl ?_
      refine k_iconst C dX0_prove_26 ?_
      exact k_iret C E dX0_prove_27 (by omega) ⟨rfl, ⟨_, e2.2 _ _ ho, fun z => by cases z⟩, by rw [if_neg (by decide)]; exact same_stepO H hsep e2⟩
    · cases Option.some.inj (show some sIAE = some _ from e1)
      refine x_hand (hh := [(0, 21, 24, 21), (0, 21, 28, 13), (0, 21, 32, 15)]) (nx := sIAE) C N0 [⟨0, 21, 24, 21⟩] ⟨0, 21, 28, 13⟩ [⟨0, 21, 32, 15⟩] rfl (fun z hz => Or.inr (by
          simp at hz
          subst hz
          exact ⟨by decide, _, q739, by decide⟩)) (by decide) (by decide) q669 q230 (fun q => ?_)
      refine k_astore C dX0_prove_28 (Nat.le_of_ble_eq_true rfl) rfl ?_
      refine k_iconst C dX0_prove_30 ?_
      exact k_iret C E dX0_prove_31 (by omega) ⟨rfl, ⟨_, e2.2 _ _ ho, fun z => by cases z⟩, by rw [if_neg (by decide)]; exact same_stepO H hsep e2⟩
    · cases Option.some.inj (show some sISE = some _ from e1)
      refine x_hand (hh := [(0, 21, 24, 21), (0, 21, 28, 13), (0, 21, 32, 15)]) (nx := sISE) C N0 [⟨0, 21, 24, 21⟩, ⟨0, 21, 28, 13⟩] ⟨0, 21, 32, 15⟩ [] rfl (fun z hz => Or.inr (by
          simp at hz
          rcases hz with rfl | rfl
          · exact ⟨by decide, _, q739, by decide⟩
          · exact ⟨by decide, _, q669, by decide⟩)) (by decide) (by decide) q670 q680 (fun q => ?_)
      refine k_astore C dX0_prove_32 (Nat.le_of_ble_eq_true rfl) rfl ?_
      refine k_iconst C dX0_prove_34 ?_
      exact k_iret C E dX0_prove_35 (by omega) ⟨rfl, ⟨_, e2.2 _ _ ho, fun z => by cases z⟩, by rw [if_neg (by decide)]; exact same_stepO H hsep e2⟩
theorem w_doubt {w : Wd} {h : Hp} {x o : Nat} {X : XL} {σ : Sg} {p0 : Int} {g : Nat → Value} (H : isX w h x X σ) (hsep : sepX X σ.n σ.k) (hσ : SgOk σ) (hb : σ.bk ≤ 90000) (i0 : i32 p0) (ho : h.2 o = some (.inr (2, 1, g))) : Ct w yX0_doubt (wsW_ yX0_doubt cX0_doubt 4 (some FieldType.int) [(0, 9, 12, 13)]) 12 286 1 6 [.ref x, jI p0, .ref o] h (wPost w h x X σ o (dbtK p0) (dbtN p0 σ σ.n : Nat) (dbtG p0 σ)) NoX := by
  have hX := H.1
  refine Ct.ofH (by decide) [some (.ref x), some (jI p0), some (.ref o), none] rfl (Nat.le_of_ble_eq_true rfl) (fun K C E N0 => ?_)
  generalize hK : dbtK p0 = K0 at *
  refine k_aload_n C dX0_doubt_0 rfl ?_
  refine k_iconst C dX0_doubt_1 ?_
  refine k_aload_n C dX0_doubt_2 rfl ?_
  refine k_iload_n C dX0_doubt_3 rfl ?_
  refine kx_V C rfl mv_X0_39 dX0_doubt_4 ((c_doubtX H hsep hσ hb i0)) (by assumption) rfl rfl (Nat.le_of_ble_eq_true rfl) ⟨(Nat.le_of_ble_eq_true rfl), (Nat.le_of_ble_eq_true rfl)⟩ (by omega) (fun v h1 hp_ => ?_) (fun E1 h1 hx => ?_)
  obtain ⟨hk, rfl, ST⟩ := hp_
  · have st := ST
    rw [hK] at hk
    subst hk
    have ho1 := stepX.out H (Or.inl rfl) ho st
    refine k_i2l C dX0_doubt_7 ?_
    refine k_last C dX0_doubt_8 ho1 (by decide) (fun h2 P2 => ?_)
    refine k_goto C dX0_doubt_9 (tgt := 15) (by decide) ?_
    refine k_iconst C dX0_doubt_15 ?_
    exact k_iret C E dX0_doubt_16 (by omega) ⟨rfl, ⟨_, P2.2.1, fun _ => rfl⟩, by rw [if_pos rfl]; exact st.put (Or.inl rfl) ho1 P2⟩
  · obtain ⟨⟨e0, e1⟩, e2⟩ := hx
    rw [hK] at e0 e1
    obtain rfl : K0 = 1 := by
      have : K0 - 1 < 1 := (List.getElem?_eq_some_iff.mp e1).1
      omega
    cases Option.some.inj (show some sIAE = some _ from e1)
    refine x_hand (hh := [(0, 9, 12, 13)]) (nx := sIAE) C N0 [] ⟨0, 9, 12, 13⟩ [] rfl (fun z hz => by cases hz) (by decide) (by decide) q669 q230 (fun q => ?_)
    refine k_astore_n C dX0_doubt_12 (Nat.le_of_ble_eq_true rfl) rfl ?_
    refine k_iconst C dX0_doubt_13 ?_
    exact k_iret C E dX0_doubt_14 (by omega) ⟨rfl, ⟨_, e2.2 _ _ ho, fun z => by cases z⟩, by rw [if_neg (by decide)]; exact same_stepO H hsep e2⟩
theorem w_decide {w : Wd} {h : Hp} {x o : Nat} {X : XL} {σ : Sg} {p0 : Int} {g : Nat → Value} (H : isX w h x X σ) (hsep : sepX X σ.n σ.k) (hσ : SgOk σ) (i0 : i32 p0) (ho : h.2 o = some (.inr (2, 1, g))) : Ct w yX0_decide (wsW_ yX0_decide cX0_decide 4 (some FieldType.int) [(0, 9, 12, 21), (0, 9, 15, 15)]) 13 331 1080 12040 [.ref x, jI p0, .ref o] h (wPost w h x X σ o (decK σ p0) (kindN (decM (σ.ms p0.toNat))) (putG σ p0.toNat (decM (σ.ms p0.toNat)) σ.tk σ.rf σ.bk)) NoX := by
  have hX := H.1
  refine Ct.ofH (by decide) [some (.ref x), some (jI p0), some (.ref o), none] rfl (Nat.le_of_ble_eq_true rfl) (fun K C E N0 => ?_)
  generalize hK : decK σ p0 = K0 at *
  refine k_aload_n C dX0_decide_0 rfl ?_
  refine k_iconst C dX0_decide_1 ?_
  refine k_aload_n C dX0_decide_2 rfl ?_
  refine k_iload_n C dX0_decide_3 rfl ?_
  refine kx_V C rfl mv_X0_42 dX0_decide_4 ((c_decideX H hsep hσ i0)) (by assumption) rfl rfl (Nat.le_of_ble_eq_true rfl) ⟨(Nat.le_of_ble_eq_true rfl), (Nat.le_of_ble_eq_true rfl)⟩ (by omega) (fun v h1 hp_ => ?_) (fun E1 h1 hx => ?_)
  obtain ⟨hk, rfl, ST⟩ := hp_
  · have st := ST
    rw [hK] at hk
    subst hk
    have ho1 := stepX.out H (Or.inl rfl) ho st
    refine k_i2l C dX0_decide_7 ?_
    refine k_last C dX0_decide_8 ho1 (by decide) (fun h2 P2 => ?_)
    refine k_goto C dX0_decide_9 (tgt := 18) (by decide) ?_
    refine k_iconst C dX0_decide_18 ?_
    exact k_iret C E dX0_decide_19 (by omega) ⟨rfl, ⟨_, P2.2.1, fun _ => rfl⟩, by rw [if_pos rfl]; exact st.put (Or.inl rfl) ho1 P2⟩
  · obtain ⟨⟨e0, e1⟩, e2⟩ := hx
    rw [hK] at e0 e1
    obtain rfl | rfl : K0 = 1 ∨ K0 = 2 := by
      have : K0 - 1 < 2 := (List.getElem?_eq_some_iff.mp e1).1
      omega
    · cases Option.some.inj (show some sIOB = some _ from e1)
      refine x_hand (hh := [(0, 9, 12, 21), (0, 9, 15, 15)]) (nx := sIOB) C N0 [] ⟨0, 9, 12, 21⟩ [⟨0, 9, 15, 15⟩] rfl (fun z hz => by cases hz) (by decide) (by decide) q739 q789 (fun q => ?_)
      refine k_astore_n C dX0_decide_12 (Nat.le_of_ble_eq_true rfl) rfl ?_
      refine k_iconst C dX0_decide_13 ?_
      exact k_iret C E dX0_decide_14 (by omega) ⟨rfl, ⟨_, e2.2 _ _ ho, fun z => by cases z⟩, by rw [if_neg (by decide)]; exact same_stepO H hsep e2⟩
    · cases Option.some.inj (show some sISE = some _ from e1)
      refine x_hand (hh := [(0, 9, 12, 21), (0, 9, 15, 15)]) (nx := sISE) C N0 [⟨0, 9, 12, 21⟩] ⟨0, 9, 15, 15⟩ [] rfl (fun z hz => Or.inr (by
          simp at hz
          subst hz
          exact ⟨by decide, _, q739, by decide⟩)) (by decide) (by decide) q670 q680 (fun q => ?_)
      refine k_astore_n C dX0_decide_15 (Nat.le_of_ble_eq_true rfl) rfl ?_
      refine k_iconst C dX0_decide_16 ?_
      exact k_iret C E dX0_decide_17 (by omega) ⟨rfl, ⟨_, e2.2 _ _ ho, fun z => by cases z⟩, by rw [if_neg (by decide)]; exact same_stepO H hsep e2⟩
theorem w_cell {w : Wd} {h : Hp} {x o : Nat} {X : XL} {σ : Sg} {p0 p1 p2 p3 : Int} {g : Nat → Value} (H : isX w h x X σ) (hsep : sepX X σ.n σ.k) (hσ : SgOk σ) (i0 : i32 p0) (i1 : i32 p1) (i2 : i32 p2) (i3 : i32 p3) (ho : h.2 o = some (.inr (2, 1, g))) : Ct w yX0_cell (wsW_ yX0_cell cX0_cell 7 (some FieldType.int) [(0, 14, 17, 21), (0, 14, 21, 13)]) 12 291 4 24 [.ref x, jI p0, jI p1, jI p2, jI p3, .ref o] h (wPost w h x X σ o (cellK σ p0 p1 p2 p3) (cellC (σ.ms p0.toNat).1 (2 * p1 + p2) p3) (σ)) NoX := by
  have hX := H.1
  refine Ct.ofH (by decide) [some (.ref x), some (jI p0), some (jI p1), some (jI p2), some (jI p3), some (.ref o), none] rfl (Nat.le_of_ble_eq_true rfl) (fun K C E N0 => ?_)
  generalize hK : cellK σ p0 p1 p2 p3 = K0 at *
  refine k_aload C dX0_cell_0 rfl ?_
  refine k_iconst C dX0_cell_2 ?_
  refine k_aload_n C dX0_cell_3 rfl ?_
  refine k_iload_n C dX0_cell_4 rfl ?_
  refine k_iload_n C dX0_cell_5 rfl ?_
  refine k_iload_n C dX0_cell_6 rfl ?_
  refine k_iload C dX0_cell_7 rfl ?_
  refine kx_V C rfl mv_X0_45 dX0_cell_9 ((c_cellX H hσ i0 i1 i2 i3)) (by assumption) rfl rfl (Nat.le_of_ble_eq_true rfl) ⟨(Nat.le_of_ble_eq_true rfl), (Nat.le_of_ble_eq_true rfl)⟩ (by omega) (fun v h1 hp_ => ?_) (fun E1 h1 hx => ?_)
  obtain ⟨hk, rfl, ST⟩ := hp_
  · have st := same_step H hsep ST
    rw [hK] at hk
    subst hk
    have ho1 := stepX.out H (Or.inl rfl) ho st
    refine k_i2l C dX0_cell_12 ?_
    refine k_last C dX0_cell_13 ho1 (by decide) (fun h2 P2 => ?_)
    refine k_goto C dX0_cell_14 (tgt := 25) (by decide) ?_
    refine k_iconst C dX0_cell_25 ?_
    exact k_iret C E dX0_cell_26 (by omega) ⟨rfl, ⟨_, P2.2.1, fun _ => rfl⟩, by rw [if_pos rfl]; exact st.put (Or.inl rfl) ho1 P2⟩
  · obtain ⟨⟨e0, e1⟩, e2⟩ := hx
    rw [hK] at e0 e1
    obtain rfl | rfl : K0 = 1 ∨ K0 = 2 := by
      have : K0 - 1 < 2 := (List.getElem?_eq_some_iff.mp e1).1
      omega
    · cases Option.some.inj (show some sIOB = some _ from e1)
      refine x_hand (hh := [(0, 14, 17, 21), (0, 14, 21, 13)]) (nx := sIOB) C N0 [] ⟨0, 14, 17, 21⟩ [⟨0, 14, 21, 13⟩] rfl (fun z hz => by cases hz) (by decide) (by decide) q739 q789 (fun q => ?_)
      refine k_astore C dX0_cell_17 (Nat.le_of_ble_eq_true rfl) rfl ?_
      refine k_iconst C dX0_cell_19 ?_
      exact k_iret C E dX0_cell_20 (by omega) ⟨rfl, ⟨_, e2.2 _ _ ho, fun z => by cases z⟩, by rw [if_neg (by decide)]; exact same_stepO H hsep e2⟩
    · cases Option.some.inj (show some sIAE = some _ from e1)
      refine x_hand (hh := [(0, 14, 17, 21), (0, 14, 21, 13)]) (nx := sIAE) C N0 [⟨0, 14, 17, 21⟩] ⟨0, 14, 21, 13⟩ [] rfl (fun z hz => Or.inr (by
          simp at hz
          subst hz
          exact ⟨by decide, _, q739, by decide⟩)) (by decide) (by decide) q669 q230 (fun q => ?_)
      refine k_astore C dX0_cell_21 (Nat.le_of_ble_eq_true rfl) rfl ?_
      refine k_iconst C dX0_cell_23 ?_
      exact k_iret C E dX0_cell_24 (by omega) ⟨rfl, ⟨_, e2.2 _ _ ho, fun z => by cases z⟩, by rw [if_neg (by decide)]; exact same_stepO H hsep e2⟩
theorem w_ofMachine {w : Wd} {h : Hp} {x o : Nat} {X : XL} {σ : Sg} {p0 p1 : Int} {g : Nat → Value} (H : isX w h x X σ) (hsep : sepX X σ.n σ.k) (hσ : SgOk σ) (i0 : i32 p0) (i1 : i32 p1) (ho : h.2 o = some (.inr (2, 1, g))) : Ct w yX0_ofMachine (wsW_ yX0_ofMachine cX0_ofMachine 5 (some FieldType.int) [(0, 10, 13, 21), (0, 10, 17, 13)]) 11 265 4 1021 [.ref x, jI p0, jI p1, .ref o] h (wPost w h x X σ o (ofmK σ p0 p1) (machC (σ.ms p0.toNat) (runN (σ.ms p0.toNat).1 500 c0) p1) (σ)) NoX := by
  have hX := H.1
  refine Ct.ofH (by decide) [some (.ref x), some (jI p0), some (jI p1), some (.ref o), none] rfl (Nat.le_of_ble_eq_true rfl) (fun K C E N0 => ?_)
  generalize hK : ofmK σ p0 p1 = K0 at *
  refine k_aload_n C dX0_ofMachine_0 rfl ?_
  refine k_iconst C dX0_ofMachine_1 ?_
  refine k_aload_n C dX0_ofMachine_2 rfl ?_
  refine k_iload_n C dX0_ofMachine_3 rfl ?_
  refine k_iload_n C dX0_ofMachine_4 rfl ?_
  refine kx_V C rfl mv_X0_49 dX0_ofMachine_5 ((c_ofMachineX H hσ i0 i1)) (by assumption) rfl rfl (Nat.le_of_ble_eq_true rfl) ⟨(Nat.le_of_ble_eq_true rfl), (Nat.le_of_ble_eq_true rfl)⟩ (by omega) (fun v h1 hp_ => ?_) (fun E1 h1 hx => ?_)
  obtain ⟨hk, rfl, ST⟩ := hp_
  · have st := same_step H hsep ST
    rw [hK] at hk
    subst hk
    have ho1 := stepX.out H (Or.inl rfl) ho st
    refine k_i2l C dX0_ofMachine_8 ?_
    refine k_last C dX0_ofMachine_9 ho1 (by decide) (fun h2 P2 => ?_)
    refine k_goto C dX0_ofMachine_10 (tgt := 21) (by decide) ?_
    refine k_iconst C dX0_ofMachine_21 ?_
    exact k_iret C E dX0_ofMachine_22 (by omega) ⟨rfl, ⟨_, P2.2.1, fun _ => rfl⟩, by rw [if_pos rfl]; exact st.put (Or.inl rfl) ho1 P2⟩
  · obtain ⟨⟨e0, e1⟩, e2⟩ := hx
    rw [hK] at e0 e1
    obtain rfl | rfl : K0 = 1 ∨ K0 = 2 := by
      have : K0 - 1 < 2 := (List.getElem?_eq_some_iff.mp e1).1
      omega
    · cases Option.some.inj (show some sIOB = some _ from e1)
      refine x_hand (hh := [(0, 10, 13, 21), (0, 10, 17, 13)]) (nx := sIOB) C N0 [] ⟨0, 10, 13, 21⟩ [⟨0, 10, 17, 13⟩] rfl (fun z hz => by cases hz) (by decide) (by decide) q739 q789 (fun q => ?_)
      refine k_astore C dX0_ofMachine_13 (Nat.le_of_ble_eq_true rfl) rfl ?_
      refine k_iconst C dX0_ofMachine_15 ?_
      exact k_iret C E dX0_ofMachine_16 (by omega) ⟨rfl, ⟨_, e2.2 _ _ ho, fun z => by cases z⟩, by rw [if_neg (by decide)]; exact same_stepO H hsep e2⟩
    · cases Option.some.inj (show some sIAE = some _ from e1)
      refine x_hand (hh := [(0, 10, 13, 21), (0, 10, 17, 13)]) (nx := sIAE) C N0 [⟨0, 10, 13, 21⟩] ⟨0, 10, 17, 13⟩ [] rfl (fun z hz => Or.inr (by
          simp at hz
          subst hz
          exact ⟨by decide, _, q739, by decide⟩)) (by decide) (by decide) q669 q230 (fun q => ?_)
      refine k_astore C dX0_ofMachine_17 (Nat.le_of_ble_eq_true rfl) rfl ?_
      refine k_iconst C dX0_ofMachine_19 ?_
      exact k_iret C E dX0_ofMachine_20 (by omega) ⟨rfl, ⟨_, e2.2 _ _ ho, fun z => by cases z⟩, by rw [if_neg (by decide)]; exact same_stepO H hsep e2⟩
theorem w_at {w : Wd} {h : Hp} {x o : Nat} {X : XL} {σ : Sg} {p0 p1 p2 : Int} {g : Nat → Value} (H : isX w h x X σ) (hsep : sepX X σ.n σ.k) (hσ : SgOk σ) (i0 : i32 p0) (i1 : i32 p1) (i2 : i32 p2) (ho : h.2 o = some (.inr (2, 1, g))) : Ct w yX0_at (wsW_ yX0_at cX0_at 6 (some FieldType.int) [(0, 12, 15, 21), (0, 12, 19, 13)]) 11 266 5 1027 [.ref x, jI p0, jI p1, jI p2, .ref o] h (wPost w h x X σ o (atK σ p0 p1 p2) (atC (runN (σ.ms p0.toNat).1 p1.toNat c0) p2) (σ)) NoX := by
  have hX := H.1
  refine Ct.ofH (by decide) [some (.ref x), some (jI p0), some (jI p1), some (jI p2), some (.ref o), none] rfl (Nat.le_of_ble_eq_true rfl) (fun K C E N0 => ?_)
  generalize hK : atK σ p0 p1 p2 = K0 at *
  refine k_aload C dX0_at_0 rfl ?_
  refine k_iconst C dX0_at_2 ?_
  refine k_aload_n C dX0_at_3 rfl ?_
  refine k_iload_n C dX0_at_4 rfl ?_
  refine k_iload_n C dX0_at_5 rfl ?_
  refine k_iload_n C dX0_at_6 rfl ?_
  refine kx_V C rfl mv_X0_52 dX0_at_7 ((c_atX H hσ i0 i1 i2)) (by assumption) rfl rfl (Nat.le_of_ble_eq_true rfl) ⟨(Nat.le_of_ble_eq_true rfl), (Nat.le_of_ble_eq_true rfl)⟩ (by omega) (fun v h1 hp_ => ?_) (fun E1 h1 hx => ?_)
  obtain ⟨hk, rfl, ST⟩ := hp_
  · have st := same_step H hsep ST
    rw [hK] at hk
    subst hk
    have ho1 := stepX.out H (Or.inl rfl) ho st
    refine k_i2l C dX0_at_10 ?_
    refine k_last C dX0_at_11 ho1 (by decide) (fun h2 P2 => ?_)
    refine k_goto C dX0_at_12 (tgt := 23) (by decide) ?_
    refine k_iconst C dX0_at_23 ?_
    exact k_iret C E dX0_at_24 (by omega) ⟨rfl, ⟨_, P2.2.1, fun _ => rfl⟩, by rw [if_pos rfl]; exact st.put (Or.inl rfl) ho1 P2⟩
  · obtain ⟨⟨e0, e1⟩, e2⟩ := hx
    rw [hK] at e0 e1
    obtain rfl | rfl : K0 = 1 ∨ K0 = 2 := by
      have : K0 - 1 < 2 := (List.getElem?_eq_some_iff.mp e1).1
      omega
    · cases Option.some.inj (show some sIOB = some _ from e1)
      refine x_hand (hh := [(0, 12, 15, 21), (0, 12, 19, 13)]) (nx := sIOB) C N0 [] ⟨0, 12, 15, 21⟩ [⟨0, 12, 19, 13⟩] rfl (fun z hz => by cases hz) (by decide) (by decide) q739 q789 (fun q => ?_)
      refine k_astore C dX0_at_15 (Nat.le_of_ble_eq_true rfl) rfl ?_
      refine k_iconst C dX0_at_17 ?_
      exact k_iret C E dX0_at_18 (by omega) ⟨rfl, ⟨_, e2.2 _ _ ho, fun z => by cases z⟩, by rw [if_neg (by decide)]; exact same_stepO H hsep e2⟩
    · cases Option.some.inj (show some sIAE = some _ from e1)
      refine x_hand (hh := [(0, 12, 15, 21), (0, 12, 19, 13)]) (nx := sIAE) C N0 [⟨0, 12, 15, 21⟩] ⟨0, 12, 19, 13⟩ [] rfl (fun z hz => Or.inr (by
          simp at hz
          subst hz
          exact ⟨by decide, _, q739, by decide⟩)) (by decide) (by decide) q669 q230 (fun q => ?_)
      refine k_astore C dX0_at_19 (Nat.le_of_ble_eq_true rfl) rfl ?_
      refine k_iconst C dX0_at_21 ?_
      exact k_iret C E dX0_at_22 (by omega) ⟨rfl, ⟨_, e2.2 _ _ ho, fun z => by cases z⟩, by rw [if_neg (by decide)]; exact same_stepO H hsep e2⟩
theorem w_symbol {w : Wd} {h : Hp} {x o : Nat} {X : XL} {σ : Sg} {p0 p1 p2 : Int} {g : Nat → Value} (H : isX w h x X σ) (hsep : sepX X σ.n σ.k) (hσ : SgOk σ) (i0 : i32 p0) (i1 : i32 p1) (i2 : i32 p2) (ho : h.2 o = some (.inr (2, 1, g))) : Ct w yX0_symbol (wsW_ yX0_symbol cX0_symbol 6 (some FieldType.int) [(0, 12, 15, 21), (0, 12, 19, 13)]) 11 266 5 1027 [.ref x, jI p0, jI p1, jI p2, .ref o] h (wPost w h x X σ o (symK σ p0 p1 p2) ((runN (σ.ms p0.toNat).1 p1.toNat c0).tp p2) (σ)) NoX := by
  have hX := H.1
  refine Ct.ofH (by decide) [some (.ref x), some (jI p0), some (jI p1), some (jI p2), some (.ref o), none] rfl (Nat.le_of_ble_eq_true rfl) (fun K C E N0 => ?_)
  generalize hK : symK σ p0 p1 p2 = K0 at *
  refine k_aload C dX0_symbol_0 rfl ?_
  refine k_iconst C dX0_symbol_2 ?_
  refine k_aload_n C dX0_symbol_3 rfl ?_
  refine k_iload_n C dX0_symbol_4 rfl ?_
  refine k_iload_n C dX0_symbol_5 rfl ?_
  refine k_iload_n C dX0_symbol_6 rfl ?_
  refine kx_V C rfl mv_X0_55 dX0_symbol_7 ((c_symbolX H hσ i0 i1 i2)) (by assumption) rfl rfl (Nat.le_of_ble_eq_true rfl) ⟨(Nat.le_of_ble_eq_true rfl), (Nat.le_of_ble_eq_true rfl)⟩ (by omega) (fun v h1 hp_ => ?_) (fun E1 h1 hx => ?_)
  obtain ⟨hk, rfl, ST⟩ := hp_
  · have st := same_step H hsep ST
    rw [hK] at hk
    subst hk
    have ho1 := stepX.out H (Or.inl rfl) ho st
    refine k_i2l C dX0_symbol_10 ?_
    refine k_last C dX0_symbol_11 ho1 (by decide) (fun h2 P2 => ?_)
    refine k_goto C dX0_symbol_12 (tgt := 23) (by decide) ?_
    refine k_iconst C dX0_symbol_23 ?_
    exact k_iret C E dX0_symbol_24 (by omega) ⟨rfl, ⟨_, P2.2.1, fun _ => rfl⟩, by rw [if_pos rfl]; exact st.put (Or.inl rfl) ho1 P2⟩
  · obtain ⟨⟨e0, e1⟩, e2⟩ := hx
    rw [hK] at e0 e1
    obtain rfl | rfl : K0 = 1 ∨ K0 = 2 := by
      have : K0 - 1 < 2 := (List.getElem?_eq_some_iff.mp e1).1
      omega
    · cases Option.some.inj (show some sIOB = some _ from e1)
      refine x_hand (hh := [(0, 12, 15, 21), (0, 12, 19, 13)]) (nx := sIOB) C N0 [] ⟨0, 12, 15, 21⟩ [⟨0, 12, 19, 13⟩] rfl (fun z hz => by cases hz) (by decide) (by decide) q739 q789 (fun q => ?_)
      refine k_astore C dX0_symbol_15 (Nat.le_of_ble_eq_true rfl) rfl ?_
      refine k_iconst C dX0_symbol_17 ?_
      exact k_iret C E dX0_symbol_18 (by omega) ⟨rfl, ⟨_, e2.2 _ _ ho, fun z => by cases z⟩, by rw [if_neg (by decide)]; exact same_stepO H hsep e2⟩
    · cases Option.some.inj (show some sIAE = some _ from e1)
      refine x_hand (hh := [(0, 12, 15, 21), (0, 12, 19, 13)]) (nx := sIAE) C N0 [⟨0, 12, 15, 21⟩] ⟨0, 12, 19, 13⟩ [] rfl (fun z hz => Or.inr (by
          simp at hz
          subst hz
          exact ⟨by decide, _, q739, by decide⟩)) (by decide) (by decide) q669 q230 (fun q => ?_)
      refine k_astore C dX0_symbol_19 (Nat.le_of_ble_eq_true rfl) rfl ?_
      refine k_iconst C dX0_symbol_21 ?_
      exact k_iret C E dX0_symbol_22 (by omega) ⟨rfl, ⟨_, e2.2 _ _ ho, fun z => by cases z⟩, by rw [if_neg (by decide)]; exact same_stepO H hsep e2⟩
theorem w_meets {w : Wd} {h : Hp} {x o : Nat} {X : XL} {σ : Sg} {p0 p1 p2 p3 : Int} {g : Nat → Value} (H : isX w h x X σ) (hsep : sepX X σ.n σ.k) (hσ : SgOk σ) (i0 : i32 p0) (i1 : i32 p1) (i2 : i32 p2) (i3 : i32 p3) (ho : h.2 o = some (.inr (2, 1, g))) : Ct w yX0_meets (wsW_ yX0_meets cX0_meets 7 (some FieldType.int) [(0, 14, 17, 21), (0, 14, 21, 13)]) 12 293 6 1033 [.ref x, jI p0, jI p1, jI p2, jI p3, .ref o] h (wPost w h x X σ o (meetK σ p0 p1 p2 p3) (mtF (σ.ms p0.toNat).1 p1 p2 p3.toNat 0 c0) (σ)) NoX := by
  have hX := H.1
  refine Ct.ofH (by decide) [some (.ref x), some (jI p0), some (jI p1), some (jI p2), some (jI p3), some (.ref o), none] rfl (Nat.le_of_ble_eq_true rfl) (fun K C E N0 => ?_)
  generalize hK : meetK σ p0 p1 p2 p3 = K0 at *
  refine k_aload C dX0_meets_0 rfl ?_
  refine k_iconst C dX0_meets_2 ?_
  refine k_aload_n C dX0_meets_3 rfl ?_
  refine k_iload_n C dX0_meets_4 rfl ?_
  refine k_iload_n C dX0_meets_5 rfl ?_
  refine k_iload_n C dX0_meets_6 rfl ?_
  refine k_iload C dX0_meets_7 rfl ?_
  refine kx_V C rfl mv_X0_62 dX0_meets_9 ((c_meetsX H hσ i0 i1 i2 i3)) (by assumption) rfl rfl (Nat.le_of_ble_eq_true rfl) ⟨(Nat.le_of_ble_eq_true rfl), (Nat.le_of_ble_eq_true rfl)⟩ (by omega) (fun v h1 hp_ => ?_) (fun E1 h1 hx => ?_)
  obtain ⟨hk, rfl, ST⟩ := hp_
  · have st := same_step H hsep ST
    rw [hK] at hk
    subst hk
    have ho1 := stepX.out H (Or.inl rfl) ho st
    refine k_i2l C dX0_meets_12 ?_
    refine k_last C dX0_meets_13 ho1 (by decide) (fun h2 P2 => ?_)
    refine k_goto C dX0_meets_14 (tgt := 25) (by decide) ?_
    refine k_iconst C dX0_meets_25 ?_
    exact k_iret C E dX0_meets_26 (by omega) ⟨rfl, ⟨_, P2.2.1, fun _ => rfl⟩, by rw [if_pos rfl]; exact st.put (Or.inl rfl) ho1 P2⟩
  · obtain ⟨⟨e0, e1⟩, e2⟩ := hx
    rw [hK] at e0 e1
    obtain rfl | rfl : K0 = 1 ∨ K0 = 2 := by
      have : K0 - 1 < 2 := (List.getElem?_eq_some_iff.mp e1).1
      omega
    · cases Option.some.inj (show some sIOB = some _ from e1)
      refine x_hand (hh := [(0, 14, 17, 21), (0, 14, 21, 13)]) (nx := sIOB) C N0 [] ⟨0, 14, 17, 21⟩ [⟨0, 14, 21, 13⟩] rfl (fun z hz => by cases hz) (by decide) (by decide) q739 q789 (fun q => ?_)
      refine k_astore C dX0_meets_17 (Nat.le_of_ble_eq_true rfl) rfl ?_
      refine k_iconst C dX0_meets_19 ?_
      exact k_iret C E dX0_meets_20 (by omega) ⟨rfl, ⟨_, e2.2 _ _ ho, fun z => by cases z⟩, by rw [if_neg (by decide)]; exact same_stepO H hsep e2⟩
    · cases Option.some.inj (show some sIAE = some _ from e1)
      refine x_hand (hh := [(0, 14, 17, 21), (0, 14, 21, 13)]) (nx := sIAE) C N0 [⟨0, 14, 17, 21⟩] ⟨0, 14, 21, 13⟩ [] rfl (fun z hz => Or.inr (by
          simp at hz
          subst hz
          exact ⟨by decide, _, q739, by decide⟩)) (by decide) (by decide) q669 q230 (fun q => ?_)
      refine k_astore C dX0_meets_21 (Nat.le_of_ble_eq_true rfl) rfl ?_
      refine k_iconst C dX0_meets_23 ?_
      exact k_iret C E dX0_meets_24 (by omega) ⟨rfl, ⟨_, e2.2 _ _ ho, fun z => by cases z⟩, by rw [if_neg (by decide)]; exact same_stepO H hsep e2⟩
theorem w_likeness {w : Wd} {h : Hp} {x o : Nat} {X : XL} {σ : Sg} {p0 p1 : Int} {g : Nat → Value} (H : isX w h x X σ) (hsep : sepX X σ.n σ.k) (hσ : SgOk σ) (i0 : i32 p0) (i1 : i32 p1) (ho : h.2 o = some (.inr (2, 1, g))) : Ct w yX0_likeness (wsW_ yX0_likeness cX0_likeness 5 (some FieldType.int) [(0, 10, 13, 21)]) 11 266 18 60 [.ref x, jI p0, jI p1, .ref o] h (wPost w h x X σ o (likeK σ p0 p1) (likeC (σ.ms p0.toNat).1 (σ.ms p1.toNat).1) (σ)) NoX := by
  have hX := H.1
  refine Ct.ofH (by decide) [some (.ref x), some (jI p0), some (jI p1), some (.ref o), none] rfl (Nat.le_of_ble_eq_true rfl) (fun K C E N0 => ?_)
  generalize hK : likeK σ p0 p1 = K0 at *
  refine k_aload_n C dX0_likeness_0 rfl ?_
  refine k_iconst C dX0_likeness_1 ?_
  refine k_aload_n C dX0_likeness_2 rfl ?_
  refine k_iload_n C dX0_likeness_3 rfl ?_
  refine k_iload_n C dX0_likeness_4 rfl ?_
  refine kx_V C rfl mv_X0_65 dX0_likeness_5 ((c_likenessX H hσ i0 i1)) (by assumption) rfl rfl (Nat.le_of_ble_eq_true rfl) ⟨(Nat.le_of_ble_eq_true rfl), (Nat.le_of_ble_eq_true rfl)⟩ (by omega) (fun v h1 hp_ => ?_) (fun E1 h1 hx => ?_)
  obtain ⟨hk, rfl, ST⟩ := hp_
  · have st := same_step H hsep ST
    rw [hK] at hk
    subst hk
    have ho1 := stepX.out H (Or.inl rfl) ho st
    refine k_i2l C dX0_likeness_8 ?_
    refine k_last C dX0_likeness_9 ho1 (by decide) (fun h2 P2 => ?_)
    refine k_goto C dX0_likeness_10 (tgt := 17) (by decide) ?_
    refine k_iconst C dX0_likeness_17 ?_
    exact k_iret C E dX0_likeness_18 (by omega) ⟨rfl, ⟨_, P2.2.1, fun _ => rfl⟩, by rw [if_pos rfl]; exact st.put (Or.inl rfl) ho1 P2⟩
  · obtain ⟨⟨e0, e1⟩, e2⟩ := hx
    rw [hK] at e0 e1
    obtain rfl : K0 = 1 := by
      have : K0 - 1 < 1 := (List.getElem?_eq_some_iff.mp e1).1
      omega
    cases Option.some.inj (show some sIOB = some _ from e1)
    refine x_hand (hh := [(0, 10, 13, 21)]) (nx := sIOB) C N0 [] ⟨0, 10, 13, 21⟩ [] rfl (fun z hz => by cases hz) (by decide) (by decide) q739 q789 (fun q => ?_)
    refine k_astore C dX0_likeness_13 (Nat.le_of_ble_eq_true rfl) rfl ?_
    refine k_iconst C dX0_likeness_15 ?_
    exact k_iret C E dX0_likeness_16 (by omega) ⟨rfl, ⟨_, e2.2 _ _ ho, fun z => by cases z⟩, by rw [if_neg (by decide)]; exact same_stepO H hsep e2⟩
theorem w_champion {w : Wd} {h : Hp} {x o : Nat} {X : XL} {σ : Sg} {p0 : Int} {g : Nat → Value} (H : isX w h x X σ) (hsep : sepX X σ.n σ.k) (hσ : SgOk σ) (i0 : i32 p0) (ho : h.2 o = some (.inr (2, 1, g))) : Ct w yX0_champion (wsW_ yX0_champion cX0_champion 4 (some FieldType.int) [(0, 9, 12, 13)]) 11 263 (1 + 2 * σ.n) (6 + 1009 * σ.n) [.ref x, jI p0, .ref o] h (wPost w h x X σ o (chamK p0) (chamC σ p0) (σ)) NoX := by
  have hX := H.1
  refine Ct.ofH (by decide) [some (.ref x), some (jI p0), some (.ref o), none] rfl (Nat.le_of_ble_eq_true rfl) (fun K C E N0 => ?_)
  generalize hK : chamK p0 = K0 at *
  refine k_aload_n C dX0_champion_0 rfl ?_
  refine k_iconst C dX0_champion_1 ?_
  refine k_aload_n C dX0_champion_2 rfl ?_
  refine k_iload_n C dX0_champion_3 rfl ?_
  refine kx_V C rfl mv_X0_68 dX0_champion_4 ((c_championX H hσ i0)) (by assumption) rfl rfl (Nat.le_of_ble_eq_true rfl) ⟨(Nat.le_of_ble_eq_true rfl), (Nat.le_of_ble_eq_true rfl)⟩ (by omega) (fun v h1 hp_ => ?_) (fun E1 h1 hx => ?_)
  obtain ⟨hk, rfl, ST⟩ := hp_
  · have st := same_step H hsep ST
    rw [hK] at hk
    subst hk
    have ho1 := stepX.out H (Or.inl rfl) ho st
    refine k_i2l C dX0_champion_7 ?_
    refine k_last C dX0_champion_8 ho1 (by decide) (fun h2 P2 => ?_)
    refine k_goto C dX0_champion_9 (tgt := 15) (by decide) ?_
    refine k_iconst C dX0_champion_15 ?_
    exact k_iret C E dX0_champion_16 (by omega) ⟨rfl, ⟨_, P2.2.1, fun _ => rfl⟩, by rw [if_pos rfl]; exact st.put (Or.inl rfl) ho1 P2⟩
  · obtain ⟨⟨e0, e1⟩, e2⟩ := hx
    rw [hK] at e0 e1
    obtain rfl : K0 = 1 := by
      have : K0 - 1 < 1 := (List.getElem?_eq_some_iff.mp e1).1
      omega
    cases Option.some.inj (show some sIAE = some _ from e1)
    refine x_hand (hh := [(0, 9, 12, 13)]) (nx := sIAE) C N0 [] ⟨0, 9, 12, 13⟩ [] rfl (fun z hz => by cases hz) (by decide) (by decide) q669 q230 (fun q => ?_)
    refine k_astore_n C dX0_champion_12 (Nat.le_of_ble_eq_true rfl) rfl ?_
    refine k_iconst C dX0_champion_13 ?_
    exact k_iret C E dX0_champion_14 (by omega) ⟨rfl, ⟨_, e2.2 _ _ ho, fun z => by cases z⟩, by rw [if_neg (by decide)]; exact same_stepO H hsep e2⟩
theorem w_tagged {w : Wd} {h : Hp} {x o : Nat} {X : XL} {σ : Sg} {p0 p1 p2 : Int} {g : Nat → Value} (H : isX w h x X σ) (hsep : sepX X σ.n σ.k) (hσ : SgOk σ) (i0 : i32 p0) (i1 : i32 p1) (i2 : i32 p2) (ho : h.2 o = some (.inr (2, 1, g))) : Ct w yX0_tagged (wsW_ yX0_tagged cX0_tagged 6 (some FieldType.int) [(0, 12, 15, 21), (0, 12, 19, 13)]) 11 265 3 18 [.ref x, jI p0, jI p1, jI p2, .ref o] h (wPost w h x X σ o (tagK σ p0 p1 p2) (tagR (σ.tg p0.toNat) p2.toNat p1.toNat) (σ)) NoX := by
  have hX := H.1
  refine Ct.ofH (by decide) [some (.ref x), some (jI p0), some (jI p1), some (jI p2), some (.ref o), none] rfl (Nat.le_of_ble_eq_true rfl) (fun K C E N0 => ?_)
  generalize hK : tagK σ p0 p1 p2 = K0 at *
  refine k_aload C dX0_tagged_0 rfl ?_
  refine k_iconst C dX0_tagged_2 ?_
  refine k_aload_n C dX0_tagged_3 rfl ?_
  refine k_iload_n C dX0_tagged_4 rfl ?_
  refine k_iload_n C dX0_tagged_5 rfl ?_
  refine k_iload_n C dX0_tagged_6 rfl ?_
  refine kx_V C rfl mv_X0_71 dX0_tagged_7 ((c_taggedX H hσ i0 i1 i2)) (by assumption) rfl rfl (Nat.le_of_ble_eq_true rfl) ⟨(Nat.le_of_ble_eq_true rfl), (Nat.le_of_ble_eq_true rfl)⟩ (by omega) (fun v h1 hp_ => ?_) (fun E1 h1 hx => ?_)
  obtain ⟨hk, rfl, ST⟩ := hp_
  · have st := same_step H hsep ST
    rw [hK] at hk
    subst hk
    have ho1 := stepX.out H (Or.inl rfl) ho st
    refine k_i2l C dX0_tagged_10 ?_
    refine k_last C dX0_tagged_11 ho1 (by decide) (fun h2 P2 => ?_)
    refine k_goto C dX0_tagged_12 (tgt := 23) (by decide) ?_
    refine k_iconst C dX0_tagged_23 ?_
    exact k_iret C E dX0_tagged_24 (by omega) ⟨rfl, ⟨_, P2.2.1, fun _ => rfl⟩, by rw [if_pos rfl]; exact st.put (Or.inl rfl) ho1 P2⟩
  · obtain ⟨⟨e0, e1⟩, e2⟩ := hx
    rw [hK] at e0 e1
    obtain rfl | rfl : K0 = 1 ∨ K0 = 2 := by
      have : K0 - 1 < 2 := (List.getElem?_eq_some_iff.mp e1).1
      omega
    · cases Option.some.inj (show some sIOB = some _ from e1)
      refine x_hand (hh := [(0, 12, 15, 21), (0, 12, 19, 13)]) (nx := sIOB) C N0 [] ⟨0, 12, 15, 21⟩ [⟨0, 12, 19, 13⟩] rfl (fun z hz => by cases hz) (by decide) (by decide) q739 q789 (fun q => ?_)
      refine k_astore C dX0_tagged_15 (Nat.le_of_ble_eq_true rfl) rfl ?_
      refine k_iconst C dX0_tagged_17 ?_
      exact k_iret C E dX0_tagged_18 (by omega) ⟨rfl, ⟨_, e2.2 _ _ ho, fun z => by cases z⟩, by rw [if_neg (by decide)]; exact same_stepO H hsep e2⟩
    · cases Option.some.inj (show some sIAE = some _ from e1)
      refine x_hand (hh := [(0, 12, 15, 21), (0, 12, 19, 13)]) (nx := sIAE) C N0 [⟨0, 12, 15, 21⟩] ⟨0, 12, 19, 13⟩ [] rfl (fun z hz => Or.inr (by
          simp at hz
          subst hz
          exact ⟨by decide, _, q739, by decide⟩)) (by decide) (by decide) q669 q230 (fun q => ?_)
      refine k_astore C dX0_tagged_19 (Nat.le_of_ble_eq_true rfl) rfl ?_
      refine k_iconst C dX0_tagged_21 ?_
      exact k_iret C E dX0_tagged_22 (by omega) ⟨rfl, ⟨_, e2.2 _ _ ho, fun z => by cases z⟩, by rw [if_neg (by decide)]; exact same_stepO H hsep e2⟩
theorem w_many {w : Wd} {h : Hp} {x o : Nat} {X : XL} {σ : Sg} {p0 : Int} {g : Nat → Value} (H : isX w h x X σ) (hsep : sepX X σ.n σ.k) (hσ : SgOk σ) (i0 : i32 p0) (ho : h.2 o = some (.inr (2, 1, g))) : Ct w yX0_many (wsW_ yX0_many cX0_many 4 (some FieldType.int) [(0, 9, 12, 13)]) 13 306 2 12 [.ref x, jI p0, .ref o] h (wPost w h x X σ o (manyK p0) (manyC σ p0) (σ)) NoX := by
  have hX := H.1
  refine Ct.ofH (by decide) [some (.ref x), some (jI p0), some (.ref o), none] rfl (Nat.le_of_ble_eq_true rfl) (fun K C E N0 => ?_)
  generalize hK : manyK p0 = K0 at *
  refine k_aload_n C dX0_many_0 rfl ?_
  refine k_iconst C dX0_many_1 ?_
  refine k_aload_n C dX0_many_2 rfl ?_
  refine k_iload_n C dX0_many_3 rfl ?_
  refine kx_V C rfl mv_X0_74 dX0_many_4 ((c_manyX H hσ i0)) (by assumption) rfl rfl (Nat.le_of_ble_eq_true rfl) ⟨(Nat.le_of_ble_eq_true rfl), (Nat.le_of_ble_eq_true rfl)⟩ (by omega) (fun v h1 hp_ => ?_) (fun E1 h1 hx => ?_)
  obtain ⟨hk, rfl, ST⟩ := hp_
  · have st := same_step H hsep ST
    rw [hK] at hk
    subst hk
    have ho1 := stepX.out H (Or.inl rfl) ho st
    refine k_i2l C dX0_many_7 ?_
    refine k_last C dX0_many_8 ho1 (by decide) (fun h2 P2 => ?_)
    refine k_goto C dX0_many_9 (tgt := 15) (by decide) ?_
    refine k_iconst C dX0_many_15 ?_
    exact k_iret C E dX0_many_16 (by omega) ⟨rfl, ⟨_, P2.2.1, fun _ => rfl⟩, by rw [if_pos rfl]; exact st.put (Or.inl rfl) ho1 P2⟩
  · obtain ⟨⟨e0, e1⟩, e2⟩ := hx
    rw [hK] at e0 e1
    obtain rfl : K0 = 1 := by
      have : K0 - 1 < 1 := (List.getElem?_eq_some_iff.mp e1).1
      omega
    cases Option.some.inj (show some sIAE = some _ from e1)
    refine x_hand (hh := [(0, 9, 12, 13)]) (nx := sIAE) C N0 [] ⟨0, 9, 12, 13⟩ [] rfl (fun z hz => by cases hz) (by decide) (by decide) q669 q230 (fun q => ?_)
    refine k_astore_n C dX0_many_12 (Nat.le_of_ble_eq_true rfl) rfl ?_
    refine k_iconst C dX0_many_13 ?_
    exact k_iret C E dX0_many_14 (by omega) ⟨rfl, ⟨_, e2.2 _ _ ho, fun z => by cases z⟩, by rw [if_neg (by decide)]; exact same_stepO H hsep e2⟩
theorem w_cycleIn {w : Wd} {h : Hp} {x o : Nat} {X : XL} {σ : Sg} {p0 p1 : Int} {g : Nat → Value} (H : isX w h x X σ) (hsep : sepX X σ.n σ.k) (hσ : SgOk σ) (i0 : i32 p0) (i1 : i32 p1) (ho : h.2 o = some (.inr (2, 1, g))) : Ct w yX0_cycleIn (wsW_ yX0_cycleIn cX0_cycleIn 5 (some FieldType.int) [(0, 10, 13, 21), (0, 10, 17, 13)]) 11 281 92 3718 [.ref x, jI p0, jI p1, .ref o] h (wPost w h x X σ o (cycK σ p0 p1) (cycNow (σ.ms p0.toNat).1 p1.toNat) (σ)) NoX := by
  have hX := H.1
  refine Ct.ofH (by decide) [some (.ref x), some (jI p0), some (jI p1), some (.ref o), none] rfl (Nat.le_of_ble_eq_true rfl) (fun K C E N0 => ?_)
  generalize hK : cycK σ p0 p1 = K0 at *
  refine k_aload_n C dX0_cycleIn_0 rfl ?_
  refine k_iconst C dX0_cycleIn_1 ?_
  refine k_aload_n C dX0_cycleIn_2 rfl ?_
  refine k_iload_n C dX0_cycleIn_3 rfl ?_
  refine k_iload_n C dX0_cycleIn_4 rfl ?_
  refine kx_V C rfl mv_X0_77 dX0_cycleIn_5 ((c_cycleInX H hσ i0 i1)) (by assumption) rfl rfl (Nat.le_of_ble_eq_true rfl) ⟨(Nat.le_of_ble_eq_true rfl), (Nat.le_of_ble_eq_true rfl)⟩ (by omega) (fun v h1 hp_ => ?_) (fun E1 h1 hx => ?_)
  obtain ⟨hk, rfl, ST⟩ := hp_
  · have st := same_step H hsep ST
    rw [hK] at hk
    subst hk
    have ho1 := stepX.out H (Or.inl rfl) ho st
    refine k_i2l C dX0_cycleIn_8 ?_
    refine k_last C dX0_cycleIn_9 ho1 (by decide) (fun h2 P2 => ?_)
    refine k_goto C dX0_cycleIn_10 (tgt := 21) (by decide) ?_
    refine k_iconst C dX0_cycleIn_21 ?_
    exact k_iret C E dX0_cycleIn_22 (by omega) ⟨rfl, ⟨_, P2.2.1, fun _ => rfl⟩, by rw [if_pos rfl]; exact st.put (Or.inl rfl) ho1 P2⟩
  · obtain ⟨⟨e0, e1⟩, e2⟩ := hx
    rw [hK] at e0 e1
    obtain rfl | rfl : K0 = 1 ∨ K0 = 2 := by
      have : K0 - 1 < 2 := (List.getElem?_eq_some_iff.mp e1).1
      omega
    · cases Option.some.inj (show some sIOB = some _ from e1)
      refine x_hand (hh := [(0, 10, 13, 21), (0, 10, 17, 13)]) (nx := sIOB) C N0 [] ⟨0, 10, 13, 21⟩ [⟨0, 10, 17, 13⟩] rfl (fun z hz => by cases hz) (by decide) (by decide) q739 q789 (fun q => ?_)
      refine k_astore C dX0_cycleIn_13 (Nat.le_of_ble_eq_true rfl) rfl ?_
      refine k_iconst C dX0_cycleIn_15 ?_
      exact k_iret C E dX0_cycleIn_16 (by omega) ⟨rfl, ⟨_, e2.2 _ _ ho, fun z => by cases z⟩, by rw [if_neg (by decide)]; exact same_stepO H hsep e2⟩
    · cases Option.some.inj (show some sIAE = some _ from e1)
      refine x_hand (hh := [(0, 10, 13, 21), (0, 10, 17, 13)]) (nx := sIAE) C N0 [⟨0, 10, 13, 21⟩] ⟨0, 10, 17, 13⟩ [] rfl (fun z hz => Or.inr (by
          simp at hz
          subst hz
          exact ⟨by decide, _, q739, by decide⟩)) (by decide) (by decide) q669 q230 (fun q => ?_)
      refine k_astore C dX0_cycleIn_17 (Nat.le_of_ble_eq_true rfl) rfl ?_
      refine k_iconst C dX0_cycleIn_19 ?_
      exact k_iret C E dX0_cycleIn_20 (by omega) ⟨rfl, ⟨_, e2.2 _ _ ho, fun z => by cases z⟩, by rw [if_neg (by decide)]; exact same_stepO H hsep e2⟩
theorem w_backIn {w : Wd} {h : Hp} {x o : Nat} {X : XL} {σ : Sg} {p0 : Int} {g : Nat → Value} (H : isX w h x X σ) (hsep : sepX X σ.n σ.k) (hσ : SgOk σ) (i0 : i32 p0) (ho : h.2 o = some (.inr (2, 1, g))) : Ct w yX0_backIn (wsW_ yX0_backIn cX0_backIn 4 (some FieldType.int) [(0, 9, 12, 21)]) 12 302 992 7248 [.ref x, jI p0, .ref o] h (wPost w h x X σ o (oneK σ p0) (backNow (σ.ms p0.toNat).1) (σ)) NoX := by
  have hX := H.1
  refine Ct.ofH (by decide) [some (.ref x), some (jI p0), some (.ref o), none] rfl (Nat.le_of_ble_eq_true rfl) (fun K C E N0 => ?_)
  generalize hK : oneK σ p0 = K0 at *
  refine k_aload_n C dX0_backIn_0 rfl ?_
  refine k_iconst C dX0_backIn_1 ?_
  refine k_aload_n C dX0_backIn_2 rfl ?_
  refine k_iload_n C dX0_backIn_3 rfl ?_
  refine kx_V C rfl mv_X0_80 dX0_backIn_4 ((c_backInX H hσ i0)) (by assumption) rfl rfl (Nat.le_of_ble_eq_true rfl) ⟨(Nat.le_of_ble_eq_true rfl), (Nat.le_of_ble_eq_true rfl)⟩ (by omega) (fun v h1 hp_ => ?_) (fun E1 h1 hx => ?_)
  obtain ⟨hk, rfl, ST⟩ := hp_
  · have st := same_step H hsep ST
    rw [hK] at hk
    subst hk
    have ho1 := stepX.out H (Or.inl rfl) ho st
    refine k_i2l C dX0_backIn_7 ?_
    refine k_last C dX0_backIn_8 ho1 (by decide) (fun h2 P2 => ?_)
    refine k_goto C dX0_backIn_9 (tgt := 15) (by decide) ?_
    refine k_iconst C dX0_backIn_15 ?_
    exact k_iret C E dX0_backIn_16 (by omega) ⟨rfl, ⟨_, P2.2.1, fun _ => rfl⟩, by rw [if_pos rfl]; exact st.put (Or.inl rfl) ho1 P2⟩
  · obtain ⟨⟨e0, e1⟩, e2⟩ := hx
    rw [hK] at e0 e1
    obtain rfl : K0 = 1 := by
      have : K0 - 1 < 1 := (List.getElem?_eq_some_iff.mp e1).1
      omega
    cases Option.some.inj (show some sIOB = some _ from e1)
    refine x_hand (hh := [(0, 9, 12, 21)]) (nx := sIOB) C N0 [] ⟨0, 9, 12, 21⟩ [] rfl (fun z hz => by cases hz) (by decide) (by decide) q739 q789 (fun q => ?_)
    refine k_astore_n C dX0_backIn_12 (Nat.le_of_ble_eq_true rfl) rfl ?_
    refine k_iconst C dX0_backIn_13 ?_
    exact k_iret C E dX0_backIn_14 (by omega) ⟨rfl, ⟨_, e2.2 _ _ ho, fun z => by cases z⟩, by rw [if_neg (by decide)]; exact same_stepO H hsep e2⟩
theorem w_gramIn {w : Wd} {h : Hp} {x o : Nat} {X : XL} {σ : Sg} {p0 : Int} {g : Nat → Value} (H : isX w h x X σ) (hsep : sepX X σ.n σ.k) (hσ : SgOk σ) (i0 : i32 p0) (ho : h.2 o = some (.inr (2, 1, g))) : Ct w yX0_gramIn (wsW_ yX0_gramIn cX0_gramIn 4 (some FieldType.int) [(0, 9, 12, 21)]) 13 326 13 1608 [.ref x, jI p0, .ref o] h (wPost w h x X σ o (oneK σ p0) (gramNow (σ.ms p0.toNat).1) (σ)) NoX := by
  have hX := H.1
  refine Ct.ofH (by decide) [some (.ref x), some (jI p0), some (.ref o), none] rfl (Nat.le_of_ble_eq_true rfl) (fun K C E N0 => ?_)
  generalize hK : oneK σ p0 = K0 at *
  refine k_aload_n C dX0_gramIn_0 rfl ?_
  refine k_iconst C dX0_gramIn_1 ?_
  refine k_aload_n C dX0_gramIn_2 rfl ?_
  refine k_iload_n C dX0_gramIn_3 rfl ?_
  refine kx_V C rfl mv_X0_83 dX0_gramIn_4 ((c_gramInX H hσ i0)) (by assumption) rfl rfl (Nat.le_of_ble_eq_true rfl) ⟨(Nat.le_of_ble_eq_true rfl), (Nat.le_of_ble_eq_true rfl)⟩ (by omega) (fun v h1 hp_ => ?_) (fun E1 h1 hx => ?_)
  obtain ⟨hk, rfl, ST⟩ := hp_
  · have st := same_step H hsep ST
    rw [hK] at hk
    subst hk
    have ho1 := stepX.out H (Or.inl rfl) ho st
    refine k_i2l C dX0_gramIn_7 ?_
    refine k_last C dX0_gramIn_8 ho1 (by decide) (fun h2 P2 => ?_)
    refine k_goto C dX0_gramIn_9 (tgt := 15) (by decide) ?_
    refine k_iconst C dX0_gramIn_15 ?_
    exact k_iret C E dX0_gramIn_16 (by omega) ⟨rfl, ⟨_, P2.2.1, fun _ => rfl⟩, by rw [if_pos rfl]; exact st.put (Or.inl rfl) ho1 P2⟩
  · obtain ⟨⟨e0, e1⟩, e2⟩ := hx
    rw [hK] at e0 e1
    obtain rfl : K0 = 1 := by
      have : K0 - 1 < 1 := (List.getElem?_eq_some_iff.mp e1).1
      omega
    cases Option.some.inj (show some sIOB = some _ from e1)
    refine x_hand (hh := [(0, 9, 12, 21)]) (nx := sIOB) C N0 [] ⟨0, 9, 12, 21⟩ [] rfl (fun z hz => by cases hz) (by decide) (by decide) q739 q789 (fun q => ?_)
    refine k_astore_n C dX0_gramIn_12 (Nat.le_of_ble_eq_true rfl) rfl ?_
    refine k_iconst C dX0_gramIn_13 ?_
    exact k_iret C E dX0_gramIn_14 (by omega) ⟨rfl, ⟨_, e2.2 _ _ ho, fun z => by cases z⟩, by rw [if_neg (by decide)]; exact same_stepO H hsep e2⟩
