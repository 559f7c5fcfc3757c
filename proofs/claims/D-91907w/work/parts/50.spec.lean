/-! WHAT IS MEANT: P, the Model's cells that last (in the Model's own layout), and what is worked out of them -/
set_option maxRecDepth 100000
def per (a k : Nat) : Bool := (Nat.beq a 305 && (Nat.beq k 1 || Nat.beq k 2 || Nat.beq k 8 || Nat.beq k 9 || Nat.beq k 18 || Nat.beq k 33 || Nat.beq k 34)) || (Nat.ble 306 a && Nat.ble a 312) || Nat.beq a 315 || Nat.beq a 316 || Nat.beq a 317 || ((Nat.beq a 318 || Nat.beq a 319) && Nat.ble k 1999) || Nat.beq a 328 || Nat.beq a 330
def pr (M : Nat → Nat → Int32) : Nat → Nat → Int32 := fun a k => bif per a k then M a k else 0
theorem pr_rd {M P : Nat → Nat → Int32} (h : pr M = P) {a k : Nat} (hp : per a k = true) : M a k = P a k := by
  rw [← h, pr, hp]; rfl
theorem pr_eq {M M' : Nat → Nat → Int32} (h : ∀ a k, per a k = true → M' a k = M a k) : pr M' = pr M := by
  funext a k
  unfold pr
  cases hp : per a k with
  | false => rfl
  | true => exact h a k hp
theorem pr_wr {M : Nat → Nat → Int32} {a k : Nat} {v : Int32} (h : per a k = false) : pr (wr M a k v) = pr M := pr_eq fun b j hb => by
  by_cases e : b = a
  · subst e
    rw [wrk (fun q => by subst q; rw [h] at hb; cases hb)]
  · rw [wr_ne e]
theorem pr_fu {M : Nat → Nat → Int32} {a : Nat} {f : Nat → Int32} (h : ∀ k, per a k = false) : pr (fu M a f) = pr M := pr_eq fun b j hb => by
  rw [fu_ne (fun q => by subst q; rw [h] at hb; cases hb)]
theorem pr_wrp {M : Nat → Nat → Int32} {a k : Nat} {v : Int32} (h : per a k = true) : pr (wr M a k v) = wr (pr M) a k v := by
  funext b j
  by_cases e : b = a
  · subst e
    by_cases e2 : j = k
    · subst e2; rw [wrs, pr, h, wrs]; rfl
    · rw [wrk e2, pr, wrk e2, pr]
  · rw [wr_ne e, pr, wr_ne e, pr]
/-! members and shifts -/
def mN (P : Nat → Nat → Int32) : Nat := (P 305 1).toNatClampNeg
def sN (P : Nat → Nat → Int32) : Nat := (P 305 2).toNatClampNeg
def oi : Option Nat → Int32
  | none => -1
  | some i => nI i
theorem oi_n {o : Option Nat} (h : ∀ i, o = some i → i < 2 ^ 31) : oi o = -1 ↔ o = none := by
  cases o with
  | none => exact ⟨fun _ => rfl, fun _ => rfl⟩
  | some i =>
    refine ⟨fun q => ?_, fun q => by cases q⟩
    have h1 := congrArg Int32.toInt q
    have h2 : (oi (some i)).toInt = i := nI_toInt (h i rfl)
    rw [h2] at h1
    have h3 : (-1 : Int32).toInt = -1 := rfl
    omega
/-- the shift that counts for a member, of the first i -/
def bst (P : Nat → Nat → Int32) (dk kn m : Int32) : Nat → Option Nat
  | 0 => none
  | i + 1 => if P 306 i = m then if P 310 i ≤ kn then if P 307 i ≤ dk then (match bst P dk kn m i with
      | none => some i
      | some j => if P 307 j ≤ P 307 i then some i else some j) else bst P dk kn m i else bst P dk kn m i else bst P dk kn m i
theorem bst_lt {P : Nat → Nat → Int32} {dk kn m : Int32} : ∀ {i j : Nat}, bst P dk kn m i = some j → j < i := by
  intro i
  induction i with
  | zero => intro j h; cases h
  | succ i ih =>
    intro j h
    rw [bst] at h
    have g : bst P dk kn m i = some j → j < i + 1 := fun q => Nat.lt_succ_of_lt (ih q)
    split at h
    · split at h
      · split at h
        · split at h
          · cases h; omega
          · rename_i q hq
            split at h
            · cases h; omega
            · exact g (by rw [hq]; exact h)
        · exact g h
      · exact g h
    · exact g h
def blS (P : Nat → Nat → Int32) (dk kn : Int32) (m : Nat) : Int32 := match bst P dk kn (nI m) (sN P) with
  | none => -1
  | some i => P 309 i
def wtS (P : Nat → Nat → Int32) (dk kn : Int32) (m : Nat) : Int32 := if blS P dk kn m = -1 then 0 else match bst P dk kn (nI m) (sN P) with
  | none => 0
  | some i => P 308 i
/-- who is in, of the first k -/
def inN (P : Nat → Nat → Int32) (dk kn : Int32) : Nat → Nat
  | 0 => 0
  | k + 1 => if blS P dk kn k = -1 then inN P dk kn k else inN P dk kn k ||| 2 ^ k
def myN (P : Nat → Nat → Int32) (dk kn : Int32) : Nat → Nat
  | 0 => 0
  | k + 1 => if blS P dk kn k = -1 then myN P dk kn k else myN P dk kn k + 1
def alI (P : Nat → Nat → Int32) (dk kn : Int32) : Nat → Int32
  | 0 => 0
  | k + 1 => if blS P dk kn k = -1 then alI P dk kn k else alI P dk kn k + wtS P dk kn k
theorem inN_tb {P : Nat → Nat → Int32} {dk kn : Int32} : ∀ {k j : Nat}, (inN P dk kn k).testBit j = true ↔ j < k ∧ ¬ blS P dk kn j = -1 := by
  intro k
  induction k with
  | zero => intro j; simp [inN]
  | succ k ih =>
    intro j
    rw [inN]
    split
    · rename_i h
      rw [ih]
      constructor
      · rintro ⟨a, b⟩; exact ⟨by omega, b⟩
      · rintro ⟨a, b⟩
        refine ⟨?_, b⟩
        rcases Nat.lt_succ_iff_lt_or_eq.mp a with a | a
        · exact a
        · subst a; exact absurd h b
    · rename_i h
      rw [Nat.testBit_or, Bool.or_eq_true, ih, Nat.testBit_two_pow, decide_eq_true_iff]
      constructor
      · rintro (⟨a, b⟩ | a)
        · exact ⟨by omega, b⟩
        · subst a; exact ⟨by omega, h⟩
      · rintro ⟨a, b⟩
        rcases Nat.lt_succ_iff_lt_or_eq.mp a with a | a
        · exact Or.inl ⟨a, b⟩
        · exact Or.inr a.symm
theorem tb_lt {S k : Nat} (h : ∀ j, S.testBit j = true → j < k) : S < 2 ^ k := by
  apply Nat.lt_pow_two_of_testBit
  intro i hi
  cases hb : S.testBit i with
  | false => rfl
  | true => exact absurd (h i hb) (by omega)
theorem inN_lt {P : Nat → Nat → Int32} {dk kn : Int32} {k : Nat} : inN P dk kn k < 2 ^ k := tb_lt fun _ h => (inN_tb.mp h).1
theorem inN_1024 {P : Nat → Nat → Int32} {dk kn : Int32} {k : Nat} (hk : k ≤ 10) : inN P dk kn k < 1024 := Nat.lt_of_lt_of_le inN_lt (show 2 ^ k ≤ 2 ^ 10 from Nat.pow_le_pow_right (by decide) hk)
/-- heads and weights of a set -/
def hdN (S : Nat) (b : Int32) (bl : Nat → Int32) : Nat → Nat
  | 0 => 0
  | k + 1 => if S.testBit k = true ∧ (b = -1 ∨ bl k = b) then hdN S b bl k + 1 else hdN S b bl k
def wgI (S : Nat) (b : Int32) (bl wt : Nat → Int32) : Nat → Int32
  | 0 => 0
  | k + 1 => if S.testBit k = true ∧ (b = -1 ∨ bl k = b) then wgI S b bl wt k + wt k else wgI S b bl wt k
/-- what is counted -/
def VP1 (P : Nat → Nat → Int32) : Prop := P 305 1 = nI (mN P) ∧ mN P ≤ 10 ∧ P 305 2 = nI (sN P) ∧ sN P ≤ 200
/-- the Model's division on a day as known -/
def HsM (P : Nat → Nat → Int32) (dk kn : Int32) (M : Nat → Nat → Int32) : Prop := M 305 12 = nI (inN P dk kn (mN P)) ∧ M 305 13 = nI (myN P dk kn (mN P)) ∧ M 305 14 = alI P dk kn (mN P) ∧ ∀ m, m < mN P → M 314 m = blS P dk kn m ∧ M 313 m = wtS P dk kn m
theorem HsM.fu {P M : Nat → Nat → Int32} {dk kn : Int32} {a : Nat} {f : Nat → Int32} (h : HsM P dk kn M) (h1 : a ≠ 305) (h2 : a ≠ 313) (h3 : a ≠ 314) : HsM P dk kn (fu M a f) := by
  unfold HsM at h ⊢
  rw [fu_ne (fun q => h1 q.symm), fu_ne (fun q => h2 q.symm), fu_ne (fun q => h3 q.symm)]
  exact h
theorem HsM.wr {P M : Nat → Nat → Int32} {dk kn : Int32} {a k : Nat} {v : Int32} (h : HsM P dk kn M) (h1 : a ≠ 305 ∨ k < 12 ∨ 14 < k) (h2 : a ≠ 313) (h3 : a ≠ 314) : HsM P dk kn (wr M a k v) := by
  by_cases e : a = 305
  · subst e
    have h1 : k < 12 ∨ 14 < k := h1.elim (fun q => absurd rfl q) id
    unfold HsM at h ⊢
    rw [wrk (by omega), wrk (by omega), wrk (by omega), wr_ne (by decide), wr_ne (by decide)]
    exact h
  · rw [wr_fu]
    exact h.fu e h2 h3
