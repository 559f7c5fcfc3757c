/-! OPERATION: wish, the plain law -/
set_option maxRecDepth 100000
/-- the digits below 6 among the first k -/
def wishS (w : Nat) : Nat → Nat
  | 0 => 0
  | k + 1 => if dg w k < 6 then wishS w k ||| 2 ^ dg w k else wishS w k
def pc6 (S : Nat) : Nat := S % 2 + S / 2 % 2 + S / 4 % 2 + S / 8 % 2 + S / 16 % 2 + S / 32 % 2
theorem pc6_or : ∀ S, S < 64 → ∀ x, x < 6 → S ||| 2 ^ x < 64 ∧ pc6 (S ||| 2 ^ x) ≤ pc6 S + 1 ∧ (S.testBit x = true → pc6 (S ||| 2 ^ x) = pc6 S) := by decide +kernel
section WS
variable {w : Nat}
theorem wishS_64 : ∀ k, wishS w k < 64 := by
  intro k
  induction k with
  | zero => rw [wishS]; decide
  | succ k ih =>
    rw [wishS]
    split
    · rename_i h
      exact (pc6_or _ ih _ h).1
    · exact ih
theorem wishS_pc (k : Nat) : ∀ j, pc6 (wishS w (k + j)) ≤ pc6 (wishS w k) + j := by
  intro j
  induction j with
  | zero => exact Nat.le_refl _
  | succ j ih =>
    rw [show k + (j + 1) = k + j + 1 from rfl, wishS]
    split
    · rename_i h
      have := (pc6_or _ (wishS_64 (w := w) (k + j)) _ h).2.1
      omega
    · omega
theorem wishS_63 (h : wishS w 6 = 63) {k : Nat} (hk : k < 6) : dg w k < 6 ∧ (wishS w k).testBit (dg w k) = false := by
  have h1 : pc6 (wishS w (0 + k)) ≤ pc6 (wishS w 0) + k := wishS_pc 0 k
  have h0 : pc6 (wishS w 0) = 0 := by rw [wishS]; rfl
  rw [Nat.zero_add, h0] at h1
  have h2 : pc6 (wishS w (k + 1 + (5 - k))) ≤ pc6 (wishS w (k + 1)) + (5 - k) := wishS_pc (k + 1) (5 - k)
  rw [show k + 1 + (5 - k) = 6 by omega, h] at h2
  have h3 : pc6 63 = 6 := rfl
  have h4 : ¬ pc6 (wishS w (k + 1)) = pc6 (wishS w k) := by omega
  have hd : dg w k < 6 := by
    refine Decidable.byContradiction fun q => h4 ?_
    rw [wishS, if_neg q]
  refine ⟨hd, ?_⟩
  cases hb : (wishS w k).testBit (dg w k) with
  | false => rfl
  | true =>
    refine absurd ?_ h4
    rw [wishS, if_pos hd]
    exact (pc6_or _ (wishS_64 k) _ hd).2.2 hb
theorem wishS_tb {x : Nat} : ∀ k, (wishS w k).testBit x = true ↔ x < 6 ∧ ∃ j, j < k ∧ dg w j = x := by
  intro k
  induction k with
  | zero =>
    constructor
    · intro h
      rw [wishS, Nat.zero_testBit] at h
      cases h
    · rintro ⟨_, j, h, _⟩
      omega
  | succ k ih =>
    rw [wishS]
    split
    · rename_i h
      rw [Nat.testBit_or, Bool.or_eq_true, ih, Nat.testBit_two_pow, decide_eq_true_eq]
      constructor
      · rintro (⟨h1, j, h2, h3⟩ | h1)
        · exact ⟨h1, j, by omega, h3⟩
        · exact ⟨by omega, k, by omega, h1⟩
      · rintro ⟨h1, j, h2, h3⟩
        by_cases e : j = k
        · subst e; exact Or.inr h3
        · exact Or.inl ⟨h1, j, by omega, h3⟩
    · rename_i h
      rw [ih]
      constructor
      · rintro ⟨h1, j, h2, h3⟩
        exact ⟨h1, j, by omega, h3⟩
      · rintro ⟨h1, j, h2, h3⟩
        by_cases e : j = k
        · subst e; omega
        · exact ⟨h1, j, by omega, h3⟩
theorem wishS_ne (h : wishS w 6 = 63) {i k : Nat} (hi : i < k) (hk : k < 6) : dg w i ≠ dg w k := fun e => by
  obtain ⟨h1, h2⟩ := wishS_63 h hk
  rw [(wishS_tb k).mpr ⟨h1, i, hi, e⟩] at h2
  cases h2
theorem wishS_all (h : wishS w 6 = 63) {x : Nat} (hx : x < 6) : ∃ j, j < 6 ∧ dg w j = x := by
  have h63 : ∀ x, x < 6 → Nat.testBit 63 x = true := by decide
  have := h63 x hx
  rw [← h] at this
  exact ((wishS_tb 6).mp this).2
theorem wishS_le (h : wishS w 6 = 63) (hw : w < 1000000) : w ≤ 543210 := by
  have hs : w = dg w 5 * 100000 + dg w 4 * 10000 + dg w 3 * 1000 + dg w 2 * 100 + dg w 1 * 10 + dg w 0 := by
    unfold dg
    omega
  have a0 := (wishS_63 h (show 0 < 6 by decide)).1
  have a1 := (wishS_63 h (show 1 < 6 by decide)).1
  have a2 := (wishS_63 h (show 2 < 6 by decide)).1
  have a3 := (wishS_63 h (show 3 < 6 by decide)).1
  have a4 := (wishS_63 h (show 4 < 6 by decide)).1
  have a5 := (wishS_63 h (show 5 < 6 by decide)).1
  have b45 := wishS_ne h (show 4 < 5 by decide) (by decide)
  have b35 := wishS_ne h (show 3 < 5 by decide) (by decide)
  have b34 := wishS_ne h (show 3 < 4 by decide) (by decide)
  have b25 := wishS_ne h (show 2 < 5 by decide) (by decide)
  have b24 := wishS_ne h (show 2 < 4 by decide) (by decide)
  have b23 := wishS_ne h (show 2 < 3 by decide) (by decide)
  have b15 := wishS_ne h (show 1 < 5 by decide) (by decide)
  have b14 := wishS_ne h (show 1 < 4 by decide) (by decide)
  have b13 := wishS_ne h (show 1 < 3 by decide) (by decide)
  have b12 := wishS_ne h (show 1 < 2 by decide) (by decide)
  have b05 := wishS_ne h (show 0 < 5 by decide) (by decide)
  have b04 := wishS_ne h (show 0 < 4 by decide) (by decide)
  have b03 := wishS_ne h (show 0 < 3 by decide) (by decide)
  have b02 := wishS_ne h (show 0 < 2 by decide) (by decide)
  have b01 := wishS_ne h (show 0 < 1 by decide) (by decide)
  generalize dg w 0 = d0 at *
  generalize dg w 1 = d1 at *
  generalize dg w 2 = d2 at *
  generalize dg w 3 = d3 at *
  generalize dg w 4 = d4 at *
  generalize dg w 5 = d5 at *
  clear h
  refine Nat.le_of_not_lt fun q => ?_
  have e5 : d5 = 5 := by clear b45 b35 b34 b25 b24 b23 b15 b14 b13 b12 b05 b04 b03 b02 b01; omega
  subst e5
  have e4 : d4 = 4 := by clear b35 b34 b25 b24 b23 b15 b14 b13 b12 b05 b04 b03 b02 b01; omega
  subst e4
  have e3 : d3 = 3 := by clear b45 b25 b24 b23 b15 b14 b13 b12 b05 b04 b03 b02 b01; omega
  subst e3
  have e2 : d2 = 2 := by clear b45 b35 b34 b15 b14 b13 b12 b05 b04 b03 b02 b01; omega
  subst e2
  have e1 : d1 = 1 := by clear b45 b35 b34 b25 b24 b23 b05 b04 b03 b02 b01; omega
  subst e1
  omega
end WS
/-- a wish as the Model keeps it: the lowest digit last -/
def putW (P : Nat → Nat → Int32) (k w : Nat) : Nat → Nat → Nat → Int32
  | 0 => P
  | j + 1 => wr (putW P k w j) 311 (6 * k + (5 - j)) (nI (dg w j))
abbrev okW (w : Nat) : Prop := wishS w 6 = 63 ∧ w < 1000000
abbrev okWish (P : Nat → Nat → Int32) (a o : Int32) : Prop := memP P a ∧ (o = -1 ∨ (0 ≤ o ∧ okW o.toNatClampNeg))
def uWish (P : Nat → Nat → Int32) (a o : Int32) : Nat → Nat → Int32 := if okWish P a o then (if o = -1 then wr P 312 a.toNatClampNeg 0 else wr (putW P a.toNatClampNeg o.toNatClampNeg 6) 312 a.toNatClampNeg 1) else P
