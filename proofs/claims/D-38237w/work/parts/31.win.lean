/-! ===== windows ===== -/
set_option maxRecDepth 100000
/-- the rows to the left, to the right, the windows, whether they grow -/
abbrev Gw : Type := (Int → Int) × (Int → Int) × (Int → Int) × Bool
abbrev Gw.lf (g : Gw) : Int → Int := g.1
abbrev Gw.rg (g : Gw) : Int → Int := g.2.1
abbrev Gw.sn (g : Gw) : Int → Int := g.2.2.1
abbrev Gw.gr (g : Gw) : Bool := g.2.2.2
def is01 (f : Int → Int) : Prop := ∀ j, f j = 0 ∨ f j = 1
theorem is01.st {f : Int → Int} (h : is01 f) (k : Int) : is01 (up f k 1) := fun j => by
  unfold up
  split
  · exact Or.inr rfl
  · exact h j
/-- one more in the rows behind: to the left if b -/
def mkSide (b : Bool) (g : Gw) (k : Int) : Gw := if b then (up g.lf k 1, g.rg, g.sn, g.gr || decide (g.lf k = 0)) else (g.lf, up g.rg k 1, g.sn, g.gr || decide (g.rg k = 0))
def mkSeen (g : Gw) (k : Int) : Gw := (g.lf, g.rg, up g.sn k 1, g.gr || decide (g.sn k = 0))
/-- the rows ahead -/
def sideOf (b : Bool) (g : Gw) : Int → Int := if b then g.rg else g.lf
def numW (M s b l r : Int) : Int := ((s * 2 + b) * M + l) * M + r
def seeX (M : Int) (r : Ru) (b : Bool) (ah gn : Int) (g : Gw) (x : Int) : Gw := if sideOf b g (ah / 2 + x * (M / 2)) = 0 then g else mkSeen g (numW M r.2.2 (ah % 2) (if b then gn else ah / 2 + x * (M / 2)) (if b then ah / 2 + x * (M / 2) else gn))
def behW (M w : Int) (b : Bool) : Int := if b then w / M % M else w % M
def ahdW (M w : Int) (b : Bool) : Int := if b then w % M else w / M % M
def ritB (r : Ru) : Bool := decide (0 < r.2.1)
def goX (M : Int) (r : Ru) (g : Gw) (w : Int) : Gw := seeX M r (ritB r) (ahdW M w (ritB r)) ((behW M w (ritB r) * 2 + r.1) % M) (seeX M r (ritB r) (ahdW M w (ritB r)) ((behW M w (ritB r) * 2 + r.1) % M) (mkSide (ritB r) g (behW M w (ritB r))) 0) 1
/-- what comes of a window; nothing, if the machine ends there -/
def goW (T : Tb) (M : Int) (g : Gw) (w : Int) : Option Gw := match T.2 (w / (M * M)) with
  | none => none
  | some r => if r.2.2 = T.1 then none else some (goX M r g w)
def passW (T : Tb) (M : Int) : Nat → Int → Gw → Option Gw
  | 0, _, g => some g
  | d + 1, k, g => if g.sn k = 0 then passW T M d (k + 1) g else match goW T M g k with
    | none => none
    | some g' => passW T M d (k + 1) g'
def szW (T : Tb) (M : Nat) : Nat := T.1 * 2 * M * M
def closeF (T : Tb) (M : Nat) : Nat → Gw → Bool
  | 0, _ => true
  | f + 1, g => if g.gr then match passW T M (szW T M) 0 (g.lf, g.rg, g.sn, false) with
    | none => false
    | some g' => closeF T M f g' else true
def g0 : Gw := (up (fun _ => 0) 0 1, up (fun _ => 0) 0 1, up (fun _ => 0) 0 1, true)
/-- whether n symbols to each side prove it -/
def gramB (T : Tb) (n : Nat) : Bool := closeF T (2 ^ n) 600 g0
def GwOk (g : Gw) : Prop := is01 g.lf ∧ is01 g.rg ∧ is01 g.sn
theorem mkSide_ok {b : Bool} {g : Gw} {k : Int} (h : GwOk g) : GwOk (mkSide b g k) := by
  unfold mkSide
  cases b
  · exact ⟨h.1, h.2.1.st k, h.2.2⟩
  · exact ⟨h.1.st k, h.2.1, h.2.2⟩
theorem mkSeen_ok {g : Gw} {k : Int} (h : GwOk g) : GwOk (mkSeen g k) := ⟨h.1, h.2.1, h.2.2.st k⟩
theorem seeX_ok {M : Int} {r : Ru} {b : Bool} {ah gn : Int} {g : Gw} {x : Int} (h : GwOk g) : GwOk (seeX M r b ah gn g x) := by
  unfold seeX
  split
  · exact h
  · exact mkSeen_ok h
theorem goX_ok {M : Int} {r : Ru} {g : Gw} {w : Int} (h : GwOk g) : GwOk (goX M r g w) := seeX_ok (seeX_ok (mkSide_ok h))
theorem goW_ok {T : Tb} {M : Int} {g g' : Gw} {w : Int} (h : GwOk g) (e : goW T M g w = some g') : GwOk g' := by
  unfold goW at e
  cases hc : T.2 (w / (M * M)) with
  | none => rw [hc] at e; cases e
  | some r =>
    rw [hc] at e
    dsimp only at e
    split at e
    · cases e
    · rw [← Option.some.inj e]; exact goX_ok h
/-! how many are not there yet -/
def cntZ (f : Int → Int) : Nat → Nat
  | 0 => 0
  | n + 1 => cntZ f n + (if f (n : Int) = 0 then 1 else 0)
theorem cntZ_le (f : Int → Int) : ∀ n : Nat, cntZ f n ≤ n
  | 0 => Nat.le_refl _
  | n + 1 => by
    have := cntZ_le f n
    unfold cntZ
    split <;> omega
theorem cntZ_out {f : Int → Int} {k : Int} : ∀ n : Nat, (n : Int) ≤ k → cntZ (up f k 1) n = cntZ f n
  | 0, _ => rfl
  | n + 1, h => by
    unfold cntZ
    rw [cntZ_out n (by omega), up_ne (by omega)]
theorem cntZ_up {f : Int → Int} {k : Int} (hk : 0 ≤ k) : ∀ n : Nat, k < n → cntZ (up f k 1) n + (if f k = 0 then 1 else 0) = cntZ f n
  | 0, h => absurd h (by omega)
  | n + 1, h => by
    unfold cntZ
    by_cases e : k = n
    · subst e
      rw [cntZ_out n (Int.le_refl _), up_at, if_neg (by omega)]
      omega
    · have ih := cntZ_up (f := f) hk n (by omega)
      rw [up_ne (Ne.symm e)]
      omega
def zerG (M N : Nat) (g : Gw) : Nat := cntZ g.lf M + cntZ g.rg M + cntZ g.sn N
/-- less is missing; strictly less, if it grew -/
def Less (M N : Nat) (z : Nat) (g : Gw) : Prop := zerG M N g ≤ z ∧ (g.gr = true → zerG M N g < z)
theorem mkSide_less {M N z : Nat} {b : Bool} {g : Gw} {k : Int} (hk : 0 ≤ k ∧ k < M) (h : Less M N z g) : Less M N z (mkSide b g k) := by
  obtain ⟨l, r, s, q⟩ := g
  obtain ⟨h1, h2⟩ := h
  unfold zerG at h1 h2
  dsimp only [Gw.lf, Gw.rg, Gw.sn, Gw.gr] at h1 h2
  cases b
  · have e := cntZ_up (f := r) hk.1 M hk.2
    show zerG M N (l, up r k 1, s, q || decide (r k = 0)) ≤ z ∧ ((q || decide (r k = 0)) = true → zerG M N (l, up r k 1, s, q || decide (r k = 0)) < z)
    unfold zerG
    dsimp only [Gw.lf, Gw.rg, Gw.sn, Gw.gr]
    refine ⟨by split at e <;> omega, fun q' => ?_⟩
    rw [Bool.or_eq_true] at q'
    rcases q' with q1 | q1
    · have := h2 q1; split at e <;> omega
    · rw [if_pos (of_decide_eq_true q1)] at e; omega
  · have e := cntZ_up (f := l) hk.1 M hk.2
    show zerG M N (up l k 1, r, s, q || decide (l k = 0)) ≤ z ∧ ((q || decide (l k = 0)) = true → zerG M N (up l k 1, r, s, q || decide (l k = 0)) < z)
    unfold zerG
    dsimp only [Gw.lf, Gw.rg, Gw.sn, Gw.gr]
    refine ⟨by split at e <;> omega, fun q' => ?_⟩
    rw [Bool.or_eq_true] at q'
    rcases q' with q1 | q1
    · have := h2 q1; split at e <;> omega
    · rw [if_pos (of_decide_eq_true q1)] at e; omega
theorem mkSeen_less {M N z : Nat} {g : Gw} {k : Int} (hk : 0 ≤ k ∧ k < N) (h : Less M N z g) : Less M N z (mkSeen g k) := by
  obtain ⟨l, r, s, q⟩ := g
  obtain ⟨h1, h2⟩ := h
  unfold zerG at h1 h2
  dsimp only [Gw.lf, Gw.rg, Gw.sn, Gw.gr] at h1 h2
  have e := cntZ_up (f := s) hk.1 N hk.2
  show zerG M N (l, r, up s k 1, q || decide (s k = 0)) ≤ z ∧ ((q || decide (s k = 0)) = true → zerG M N (l, r, up s k 1, q || decide (s k = 0)) < z)
  unfold zerG
  dsimp only [Gw.lf, Gw.rg, Gw.sn, Gw.gr]
  refine ⟨by split at e <;> omega, fun q' => ?_⟩
  rw [Bool.or_eq_true] at q'
  rcases q' with q1 | q1
  · have := h2 q1; split at e <;> omega
  · rw [if_pos (of_decide_eq_true q1)] at e; omega
/-- two, four or eight -/
def isM (n M : Nat) : Prop := (n = 1 ∧ M = 2) ∨ (n = 2 ∧ M = 4) ∨ (n = 3 ∧ M = 8)
/-- what a window is made of -/
theorem win_b {n M S : Nat} (hM : isM n M) {w : Int} (h0 : 0 ≤ w) (h1 : w < ((S * 2 * M * M : Nat) : Int)) : (0 ≤ w % M ∧ w % M < M) ∧ (0 ≤ w / M % M ∧ w / M % M < M) ∧ (0 ≤ w / ((M : Int) * M) ∧ w / ((M : Int) * M) < 2 * S) ∧ w / (2 * ((M : Int) * M)) = w / ((M : Int) * M) / 2 ∧ (2 ≤ M ∧ M ≤ 8) := by
  rcases hM with ⟨rfl, rfl⟩ | ⟨rfl, rfl⟩ | ⟨rfl, rfl⟩ <;> refine ⟨⟨?_, ?_⟩, ⟨?_, ?_⟩, ⟨?_, ?_⟩, ?_, ?_, ?_⟩ <;> omega
theorem num_b {n M S : Nat} (hM : isM n M) {s b l r : Int} (hs : 0 ≤ s ∧ s < S) (hb : 0 ≤ b ∧ b < 2) (hl : 0 ≤ l ∧ l < M) (hr : 0 ≤ r ∧ r < M) : 0 ≤ numW M s b l r ∧ numW M s b l r < ((S * 2 * M * M : Nat) : Int) := by
  unfold numW
  rcases hM with ⟨rfl, rfl⟩ | ⟨rfl, rfl⟩ | ⟨rfl, rfl⟩ <;> constructor <;> omega
theorem nxt_w {n M : Nat} (hM : isM n M) {a x : Int} (ha : 0 ≤ a ∧ a < M) (hx : x = 0 ∨ x = 1) : 0 ≤ a / 2 + x * ((M : Int) / 2) ∧ a / 2 + x * ((M : Int) / 2) < M := by
  rcases hM with ⟨rfl, rfl⟩ | ⟨rfl, rfl⟩ | ⟨rfl, rfl⟩ <;> rcases hx with rfl | rfl <;> constructor <;> omega
theorem gn_b {n M : Nat} (hM : isM n M) {a : Int} (ha : 0 ≤ a) : 0 ≤ a % (M : Int) ∧ a % (M : Int) < M := by
  rcases hM with ⟨rfl, rfl⟩ | ⟨rfl, rfl⟩ | ⟨rfl, rfl⟩ <;> constructor <;> omega
theorem behW_b {n M S : Nat} (hM : isM n M) {w : Int} (h0 : 0 ≤ w) (h1 : w < ((S * 2 * M * M : Nat) : Int)) (b : Bool) : (0 ≤ behW M w b ∧ behW M w b < M) ∧ (0 ≤ ahdW M w b ∧ ahdW M w b < M) := by
  obtain ⟨a1, a2, -⟩ := win_b hM h0 h1
  cases b
  · exact ⟨a1, a2⟩
  · exact ⟨a2, a1⟩
theorem seeX_less {n M S z : Nat} (hM : isM n M) {r : Ru} {b : Bool} {ah gn : Int} {g : Gw} {x : Int} (hr : 0 ≤ r.2.2 ∧ r.2.2 < S) (ha : 0 ≤ ah ∧ ah < M) (hg : 0 ≤ gn ∧ gn < M) (hx : x = 0 ∨ x = 1) (h : Less M (S * 2 * M * M) z g) : Less M (S * 2 * M * M) z (seeX M r b ah gn g x) := by
  have a1 := nxt_w hM ha hx
  unfold seeX
  split
  · exact h
  · refine mkSeen_less ?_ h
    cases b
    · exact num_b hM hr (by omega) a1 hg
    · exact num_b hM hr (by omega) hg a1
theorem goW_less {T : Tb} (hT : TbOk T) {n M z : Nat} (hM : isM n M) {g g' : Gw} {w : Int} (h0 : 0 ≤ w) (h1 : w < ((szW T M : Nat) : Int)) (h : Less M (szW T M) z g) (e : goW T M g w = some g') : Less M (szW T M) z g' := by
  unfold szW at *
  obtain ⟨-, -, a3, -⟩ := win_b hM h0 h1
  unfold goW at e
  cases hc : T.2 (w / ((M : Int) * M)) with
  | none => rw [hc] at e; cases e
  | some r =>
    have hr := hT.2.2 _ r a3.1 (by omega) hc
    obtain ⟨u1, u2, u3, u4⟩ := hr
    rw [hc] at e
    dsimp only at e
    split at e
    · cases e
    · rw [← Option.some.inj e]
      obtain ⟨b1, b2⟩ := behW_b hM h0 h1 (ritB r)
      have hs : 0 ≤ r.2.2 ∧ r.2.2 < (T.1 : Nat) := by omega
      exact seeX_less hM hs b2 (gn_b hM (by omega)) (Or.inr rfl) (seeX_less hM hs b2 (gn_b hM (by omega)) (Or.inl rfl) (mkSide_less b1 h))
theorem passW_less {T : Tb} (hT : TbOk T) {n M z : Nat} (hM : isM n M) : ∀ (d : Nat) (k : Int) (g g' : Gw), 0 ≤ k → k + d = szW T M → Less M (szW T M) z g → passW T M d k g = some g' → Less M (szW T M) z g'
  | 0, k, g, g', _, _, h, e => by
    rw [← Option.some.inj e]; exact h
  | d + 1, k, g, g', h0, h1, h, e => by
    unfold passW at e
    split at e
    · exact passW_less hT hM d (k + 1) g g' (by omega) (by omega) h e
    · cases hg : goW T M g k with
      | none => rw [hg] at e; cases e
      | some g2 =>
        rw [hg] at e
        exact passW_less hT hM d (k + 1) g2 g' (by omega) (by omega) (goW_less hT hM h0 (by omega) h hg) e
