/-! SETS AS NUMBERS -/
set_option maxRecDepth 100000
theorem nsub_tb {a b i : Nat} : (nsub a b).testBit i = (a.testBit i && !b.testBit i) := by
  unfold nsub
  rw [Nat.testBit_xor, Nat.testBit_and]
  cases a.testBit i <;> cases b.testBit i <;> rfl
theorem nsub_0 {q X : Nat} : nsub q X = 0 ↔ ∀ i, q.testBit i = true → X.testBit i = true := by
  constructor
  · intro h i hq
    have := congrArg (fun z => Nat.testBit z i) h
    simp only [nsub_tb, hq, Bool.true_and, Nat.zero_testBit, Bool.not_eq_false'] at this
    exact this
  · intro h
    apply Nat.eq_of_testBit_eq
    intro i
    rw [nsub_tb, Nat.zero_testBit]
    cases hq : q.testBit i with
    | false => rfl
    | true => rw [h i hq]; rfl
theorem sub_le {q X : Nat} (h : nsub q X = 0) : q ≤ X := Nat.le_of_testBit (nsub_0.mp h)
theorem sub_rf (X : Nat) : nsub X X = 0 := nsub_0.mpr fun _ h => h
theorem sub_tr {a b c : Nat} (h : nsub a b = 0) (h2 : nsub b c = 0) : nsub a c = 0 := nsub_0.mpr fun i q => nsub_0.mp h2 i (nsub_0.mp h i q)
theorem nsub_div {a b : Nat} : nsub a b / 2 = nsub (a / 2) (b / 2) := by
  unfold nsub
  rw [Nat.xor_div_two, Nat.and_div_two]
theorem nsub_sub {a b : Nat} : nsub (nsub a b) a = 0 := nsub_0.mpr fun i q => by
  rw [nsub_tb, Bool.and_eq_true] at q
  exact q.1
theorem nsub_le {a b : Nat} : nsub a b ≤ a := sub_le nsub_sub
theorem and_sub {p X : Nat} : nsub (p &&& X) X = 0 := nsub_0.mpr fun i q => by
  rw [Nat.testBit_and, Bool.and_eq_true] at q
  exact q.2
theorem and_of_sub {p X : Nat} (h : nsub p X = 0) : p &&& X = p := by
  apply Nat.eq_of_testBit_eq
  intro i
  rw [Nat.testBit_and]
  cases hp : p.testBit i with
  | false => rfl
  | true => rw [nsub_0.mp h i hp]; rfl
theorem sub_pred : ∀ {p X q : Nat}, nsub p X = 0 → nsub q X = 0 → q < p → q ≤ (p - 1) &&& X := by
  intro p
  induction p using Nat.strongRecOn with
  | _ p ih =>
    intro X q hp hq hlt
    have h1 : ((p - 1) &&& X) / 2 = (p - 1) / 2 &&& X / 2 := Nat.and_div_two
    by_cases ho : p % 2 = 1
    · have h2 : (p - 1) / 2 = p / 2 := by omega
      have h3 : p / 2 &&& X / 2 = p / 2 := and_of_sub (by rw [← nsub_div, hp])
      rw [h2, h3] at h1
      omega
    · have h2 : (p - 1) / 2 = p / 2 - 1 := by omega
      have h3 := ih (p / 2) (by omega) (X := X / 2) (q := q / 2) (by rw [← nsub_div, hp]) (by rw [← nsub_div, hq]) (by omega)
      rw [← h2, ← h1] at h3
      by_cases h4 : q % 2 = 1
      · have h5 : X % 2 = 1 := by
          have := nsub_0.mp hq 0
          rw [Nat.testBit_zero, Nat.testBit_zero] at this
          simpa using this (by simpa using h4)
        have h6 : ((p - 1) &&& X) % 2 = 1 := Nat.and_mod_two_eq_one.mpr ⟨by omega, h5⟩
        omega
      · omega
theorem pred_lt {p X : Nat} (h : ¬ p = 0) : (p - 1) &&& X < p := by
  have : (p - 1) &&& X ≤ p - 1 := Nat.and_le_left
  omega
theorem nI_pred' {p X : Nat} (h : ¬ p = 0) : (nI p - 1) &&& nI X = nI ((p - 1) &&& X) := by
  have e : nI p - nI 1 = nI (p - 1) := pk_sub (by omega)
  show (nI p - nI 1) &&& nI X = _
  rw [e, nI_and]
theorem nI_zero {p : Nat} (h : p < 2 ^ 31) : nI p = 0 ↔ p = 0 := nI_eq h (by decide)
/-- what is a set of those in -/
theorem isSet_n {v : Int32} {X : Nat} (hX : X < 1024) : 0 ≤ v ∧ v &&& (nI X ^^^ (-1)) = 0 ↔ ∃ S, v = nI S ∧ S < 1024 ∧ nsub S X = 0 := by
  constructor
  · rintro ⟨h1, h2⟩
    obtain ⟨j, hj, rfl⟩ := nI_of' h1
    have hs : nsub j X ≤ j := nsub_le
    rw [nI_not, nI_zero (by omega)] at h2
    have := sub_le h2
    exact ⟨j, rfl, by omega, h2⟩
  · rintro ⟨S, rfl, h1, h2⟩
    refine ⟨nI_pos' (by omega), ?_⟩
    rw [nI_not, h2]
    rfl
theorem nsub_lt {a b k : Nat} (h : a < k) : nsub a b < k := Nat.lt_of_le_of_lt nsub_le h
theorem or_1024 {a b : Nat} (h : a < 1024) (h2 : b < 1024) : a ||| b < 1024 := Nat.or_lt_two_pow (n := 10) h h2
theorem pow_1024 {m : Nat} (h : m < 10) : 2 ^ m < 1024 := Nat.pow_lt_pow_right (by decide) h
/-- one more in a set -/
theorem nI_bit {m : Nat} (h : m < 10) : (1 : Int32) <<< (nI m &&& 31) = nI (2 ^ m) := by
  have := pow_1024 h
  have e : nI 1 <<< (nI m &&& 31) = nI (1 * 2 ^ m) := nI_shl (by omega) (by omega)
  rw [Nat.one_mul] at e
  exact e
theorem nI_with {S m : Nat} (h : m < 10) : nI S ||| (1 : Int32) <<< (nI m &&& 31) = nI (S ||| 2 ^ m) := by rw [nI_bit h, nI_or]
theorem nI_less {S m : Nat} (h : m < 10) : nI S &&& ((1 : Int32) <<< (nI m &&& 31) ^^^ (-1)) = nI (nsub S (2 ^ m)) := by rw [nI_bit h, nI_not]
