/-! THE LAW'S LOOP, over any invariant: every operation answers alike on both sides -/
set_option maxRecDepth 100000
/-- an operation: DivisionHall's method, then the Model's, from any memory of the invariant -/
def OpOK (L : Nat) (Inv : Nat → Mem → Prop) (isl : Bool) (yC yM : Nat) (As : List Value) : Prop := ∀ r D I Rd n s, Inv r (mm L D I Rd n s) →
  Ev 1499 yC (.ref 281 :: As) (mm L D I Rd n s) (Rt (fun v m1 => ∃ w D1 I1 Rd1 n1 s1, v = some w ∧ (bif isl then ∃ x, w = .long x else ∃ x, w = .int x) ∧ m1 = mm L D1 I1 Rd1 n1 s1 ∧ I1 0 = I 0 ∧
    Ev 1499 yM (.ref 305 :: As) m1 (Rt (fun v2 m2 => v2 = some w ∧ ∃ D2 I2 Rd2 n2 s2, m2 = mm L D2 I2 Rd2 n2 s2 ∧ Inv (r + 1) m2))))
section LG
variable {L r n s : Nat} {Inv : Nat → Mem → Prop} {D : Nat → Nat × Nat} {I : Nat → Nat → Int32} {Rd : Nat → Nat → Option Nat} {Q : Res → Prop}
theorem sc_ix {j k L : Nat} (hb : 6 * j + 6 ≤ L) (hL : L ≤ 384) (hk : k < 6) : (Int32.ofNat (6 * j) + Int32.ofNat k).toNatClampNeg = 6 * j + k ∧ ¬ (Int32.ofNat (6 * j) + Int32.ofNat k < 0 ∨ L ≤ (Int32.ofNat (6 * j) + Int32.ofNat k).toNatClampNeg) := by
  rw [← Int32.ofNat_add]
  exact ⟨nI_nt (by omega), nI_ix (by omega) (by omega)⟩
def lcs (j : Nat) : Lcs := [some (.ref 0), some (.ref 281), some (.ref 305), some (.int (Int32.ofNat (6 * j)))]
theorem lcm_self (x : Int64) : lg_cmp x x = 0 := by
  unfold lg_cmp
  simp
theorem op_0 (hop : OpOK L Inv false 33 88 []) {j : Nat} (hb : 6 * j + 6 ≤ L) (hL : L ≤ 384) (hI : Inv r (mm L D I Rd n s)) (k : ∀ D2 I2 Rd2 n2 s2, Inv (r + 1) (mm L D2 I2 Rd2 n2 s2) → Go 1500 231 1199 (lcs j) [] (mm L D2 I2 Rd2 n2 s2) Q) : Go 1500 231 152 (lcs j) [] (mm L D I Rd n s) Q := by
  refine go_s 0 rfl (go_c rfl rfl (hop  r D I Rd n s hI) (fun v m1 hm => ?_))
  obtain ⟨w, D1, I1, Rd1, n1, s1, rfl, ⟨x, rfl⟩, rfl, h0, hev⟩ := hm
  refine go_s 0 rfl (go_c rfl rfl hev (fun v m2 hm => ?_))
  obtain ⟨rfl, D2, I2, Rd2, n2, s2, rfl, hJ⟩ := hm
  refine go_br rfl (fun _ => k _ _ _ _ _ hJ) (fun h => absurd rfl h)
theorem op_1 (hop : ∀ a0 a1 a2 a3 a4 : Int32, OpOK L Inv false 35 89 [.int a0, .int a1, .int a2, .int a3, .int a4]) {j : Nat} (hb : 6 * j + 6 ≤ L) (hL : L ≤ 384) (hI : Inv r (mm L D I Rd n s)) (k : ∀ D2 I2 Rd2 n2 s2, Inv (r + 1) (mm L D2 I2 Rd2 n2 s2) → Go 1500 231 1199 (lcs j) [] (mm L D2 I2 Rd2 n2 s2) Q) : Go 1500 231 165 (lcs j) [] (mm L D I Rd n s) Q := by
  refine go_s 0 rfl (go_chk rfl (sc_ix (k := 1) hb hL (by decide)).2 ?_)
  refine go_s 0 rfl (go_chk rfl (sc_ix (k := 2) hb hL (by decide)).2 ?_)
  refine go_s 0 rfl (go_chk rfl (sc_ix (k := 3) hb hL (by decide)).2 ?_)
  refine go_s 0 rfl (go_chk rfl (sc_ix (k := 4) hb hL (by decide)).2 ?_)
  refine go_s 0 rfl (go_chk rfl (sc_ix (k := 5) hb hL (by decide)).2 ?_)
  refine go_s 0 rfl (go_c rfl rfl (hop _ _ _ _ _ r D I Rd n s hI) (fun v m1 hm => ?_))
  obtain ⟨w, D1, I1, Rd1, n1, s1, rfl, ⟨x, rfl⟩, rfl, h0, hev⟩ := hm
  rw [← h0] at hev
  refine go_s 0 rfl (go_chk rfl (sc_ix (k := 1) hb hL (by decide)).2 ?_)
  refine go_s 0 rfl (go_chk rfl (sc_ix (k := 2) hb hL (by decide)).2 ?_)
  refine go_s 0 rfl (go_chk rfl (sc_ix (k := 3) hb hL (by decide)).2 ?_)
  refine go_s 0 rfl (go_chk rfl (sc_ix (k := 4) hb hL (by decide)).2 ?_)
  refine go_s 0 rfl (go_chk rfl (sc_ix (k := 5) hb hL (by decide)).2 ?_)
  refine go_s 0 rfl (go_c rfl rfl hev (fun v m2 hm => ?_))
  obtain ⟨rfl, D2, I2, Rd2, n2, s2, rfl, hJ⟩ := hm
  refine go_br rfl (fun _ => k _ _ _ _ _ hJ) (fun h => absurd rfl h)
theorem op_2 (hop : ∀ a0 a1 : Int32, OpOK L Inv false 39 93 [.int a0, .int a1]) {j : Nat} (hb : 6 * j + 6 ≤ L) (hL : L ≤ 384) (hI : Inv r (mm L D I Rd n s)) (k : ∀ D2 I2 Rd2 n2 s2, Inv (r + 1) (mm L D2 I2 Rd2 n2 s2) → Go 1500 231 1199 (lcs j) [] (mm L D2 I2 Rd2 n2 s2) Q) : Go 1500 231 228 (lcs j) [] (mm L D I Rd n s) Q := by
  refine go_s 0 rfl (go_chk rfl (sc_ix (k := 1) hb hL (by decide)).2 ?_)
  refine go_s 0 rfl (go_chk rfl (sc_ix (k := 2) hb hL (by decide)).2 ?_)
  refine go_s 0 rfl (go_c rfl rfl (hop _ _ r D I Rd n s hI) (fun v m1 hm => ?_))
  obtain ⟨w, D1, I1, Rd1, n1, s1, rfl, ⟨x, rfl⟩, rfl, h0, hev⟩ := hm
  rw [← h0] at hev
  refine go_s 0 rfl (go_chk rfl (sc_ix (k := 1) hb hL (by decide)).2 ?_)
  refine go_s 0 rfl (go_chk rfl (sc_ix (k := 2) hb hL (by decide)).2 ?_)
  refine go_s 0 rfl (go_c rfl rfl hev (fun v m2 hm => ?_))
  obtain ⟨rfl, D2, I2, Rd2, n2, s2, rfl, hJ⟩ := hm
  refine go_br rfl (fun _ => k _ _ _ _ _ hJ) (fun h => absurd rfl h)
theorem op_3 (hop : ∀ a0 a1 : Int32, OpOK L Inv false 40 94 [.int a0, .int a1]) {j : Nat} (hb : 6 * j + 6 ≤ L) (hL : L ≤ 384) (hI : Inv r (mm L D I Rd n s)) (k : ∀ D2 I2 Rd2 n2 s2, Inv (r + 1) (mm L D2 I2 Rd2 n2 s2) → Go 1500 231 1199 (lcs j) [] (mm L D2 I2 Rd2 n2 s2) Q) : Go 1500 231 261 (lcs j) [] (mm L D I Rd n s) Q := by
  refine go_s 0 rfl (go_chk rfl (sc_ix (k := 1) hb hL (by decide)).2 ?_)
  refine go_s 0 rfl (go_chk rfl (sc_ix (k := 2) hb hL (by decide)).2 ?_)
  refine go_s 0 rfl (go_c rfl rfl (hop _ _ r D I Rd n s hI) (fun v m1 hm => ?_))
  obtain ⟨w, D1, I1, Rd1, n1, s1, rfl, ⟨x, rfl⟩, rfl, h0, hev⟩ := hm
  rw [← h0] at hev
  refine go_s 0 rfl (go_chk rfl (sc_ix (k := 1) hb hL (by decide)).2 ?_)
  refine go_s 0 rfl (go_chk rfl (sc_ix (k := 2) hb hL (by decide)).2 ?_)
  refine go_s 0 rfl (go_c rfl rfl hev (fun v m2 hm => ?_))
  obtain ⟨rfl, D2, I2, Rd2, n2, s2, rfl, hJ⟩ := hm
  refine go_br rfl (fun _ => k _ _ _ _ _ hJ) (fun h => absurd rfl h)
theorem op_4 (hop : ∀ a0 : Int32, OpOK L Inv false 43 98 [.int a0]) {j : Nat} (hb : 6 * j + 6 ≤ L) (hL : L ≤ 384) (hI : Inv r (mm L D I Rd n s)) (k : ∀ D2 I2 Rd2 n2 s2, Inv (r + 1) (mm L D2 I2 Rd2 n2 s2) → Go 1500 231 1199 (lcs j) [] (mm L D2 I2 Rd2 n2 s2) Q) : Go 1500 231 294 (lcs j) [] (mm L D I Rd n s) Q := by
  refine go_s 0 rfl (go_chk rfl (sc_ix (k := 1) hb hL (by decide)).2 ?_)
  refine go_s 0 rfl (go_c rfl rfl (hop _ r D I Rd n s hI) (fun v m1 hm => ?_))
  obtain ⟨w, D1, I1, Rd1, n1, s1, rfl, ⟨x, rfl⟩, rfl, h0, hev⟩ := hm
  rw [← h0] at hev
  refine go_s 0 rfl (go_chk rfl (sc_ix (k := 1) hb hL (by decide)).2 ?_)
  refine go_s 0 rfl (go_c rfl rfl hev (fun v m2 hm => ?_))
  obtain ⟨rfl, D2, I2, Rd2, n2, s2, rfl, hJ⟩ := hm
  refine go_br rfl (fun _ => k _ _ _ _ _ hJ) (fun h => absurd rfl h)
theorem op_5 (hop : ∀ a0 a1 a2 a3 a4 : Int32, OpOK L Inv false 44 100 [.int a0, .int a1, .int a2, .int a3, .int a4]) {j : Nat} (hb : 6 * j + 6 ≤ L) (hL : L ≤ 384) (hI : Inv r (mm L D I Rd n s)) (k : ∀ D2 I2 Rd2 n2 s2, Inv (r + 1) (mm L D2 I2 Rd2 n2 s2) → Go 1500 231 1199 (lcs j) [] (mm L D2 I2 Rd2 n2 s2) Q) : Go 1500 231 317 (lcs j) [] (mm L D I Rd n s) Q := by
  refine go_s 0 rfl (go_chk rfl (sc_ix (k := 1) hb hL (by decide)).2 ?_)
  refine go_s 0 rfl (go_chk rfl (sc_ix (k := 2) hb hL (by decide)).2 ?_)
  refine go_s 0 rfl (go_chk rfl (sc_ix (k := 3) hb hL (by decide)).2 ?_)
  refine go_s 0 rfl (go_chk rfl (sc_ix (k := 4) hb hL (by decide)).2 ?_)
  refine go_s 0 rfl (go_chk rfl (sc_ix (k := 5) hb hL (by decide)).2 ?_)
  refine go_s 0 rfl (go_c rfl rfl (hop _ _ _ _ _ r D I Rd n s hI) (fun v m1 hm => ?_))
  obtain ⟨w, D1, I1, Rd1, n1, s1, rfl, ⟨x, rfl⟩, rfl, h0, hev⟩ := hm
  rw [← h0] at hev
  refine go_s 0 rfl (go_chk rfl (sc_ix (k := 1) hb hL (by decide)).2 ?_)
  refine go_s 0 rfl (go_chk rfl (sc_ix (k := 2) hb hL (by decide)).2 ?_)
  refine go_s 0 rfl (go_chk rfl (sc_ix (k := 3) hb hL (by decide)).2 ?_)
  refine go_s 0 rfl (go_chk rfl (sc_ix (k := 4) hb hL (by decide)).2 ?_)
  refine go_s 0 rfl (go_chk rfl (sc_ix (k := 5) hb hL (by decide)).2 ?_)
  refine go_s 0 rfl (go_c rfl rfl hev (fun v m2 hm => ?_))
  obtain ⟨rfl, D2, I2, Rd2, n2, s2, rfl, hJ⟩ := hm
  refine go_br rfl (fun _ => k _ _ _ _ _ hJ) (fun h => absurd rfl h)
theorem op_6 (hop : ∀ a0 : Int32, OpOK L Inv false 46 102 [.int a0]) {j : Nat} (hb : 6 * j + 6 ≤ L) (hL : L ≤ 384) (hI : Inv r (mm L D I Rd n s)) (k : ∀ D2 I2 Rd2 n2 s2, Inv (r + 1) (mm L D2 I2 Rd2 n2 s2) → Go 1500 231 1199 (lcs j) [] (mm L D2 I2 Rd2 n2 s2) Q) : Go 1500 231 380 (lcs j) [] (mm L D I Rd n s) Q := by
  refine go_s 0 rfl (go_chk rfl (sc_ix (k := 1) hb hL (by decide)).2 ?_)
  refine go_s 0 rfl (go_c rfl rfl (hop _ r D I Rd n s hI) (fun v m1 hm => ?_))
  obtain ⟨w, D1, I1, Rd1, n1, s1, rfl, ⟨x, rfl⟩, rfl, h0, hev⟩ := hm
  rw [← h0] at hev
  refine go_s 0 rfl (go_chk rfl (sc_ix (k := 1) hb hL (by decide)).2 ?_)
  refine go_s 0 rfl (go_c rfl rfl hev (fun v m2 hm => ?_))
  obtain ⟨rfl, D2, I2, Rd2, n2, s2, rfl, hJ⟩ := hm
  refine go_br rfl (fun _ => k _ _ _ _ _ hJ) (fun h => absurd rfl h)
theorem op_7 (hop : ∀ a0 : Int32, OpOK L Inv false 47 103 [.int a0]) {j : Nat} (hb : 6 * j + 6 ≤ L) (hL : L ≤ 384) (hI : Inv r (mm L D I Rd n s)) (k : ∀ D2 I2 Rd2 n2 s2, Inv (r + 1) (mm L D2 I2 Rd2 n2 s2) → Go 1500 231 1199 (lcs j) [] (mm L D2 I2 Rd2 n2 s2) Q) : Go 1500 231 403 (lcs j) [] (mm L D I Rd n s) Q := by
  refine go_s 0 rfl (go_chk rfl (sc_ix (k := 1) hb hL (by decide)).2 ?_)
  refine go_s 0 rfl (go_c rfl rfl (hop _ r D I Rd n s hI) (fun v m1 hm => ?_))
  obtain ⟨w, D1, I1, Rd1, n1, s1, rfl, ⟨x, rfl⟩, rfl, h0, hev⟩ := hm
  rw [← h0] at hev
  refine go_s 0 rfl (go_chk rfl (sc_ix (k := 1) hb hL (by decide)).2 ?_)
  refine go_s 0 rfl (go_c rfl rfl hev (fun v m2 hm => ?_))
  obtain ⟨rfl, D2, I2, Rd2, n2, s2, rfl, hJ⟩ := hm
  refine go_br rfl (fun _ => k _ _ _ _ _ hJ) (fun h => absurd rfl h)
theorem op_8 (hop : ∀ a0 : Int32, OpOK L Inv false 49 124 [.int a0]) {j : Nat} (hb : 6 * j + 6 ≤ L) (hL : L ≤ 384) (hI : Inv r (mm L D I Rd n s)) (k : ∀ D2 I2 Rd2 n2 s2, Inv (r + 1) (mm L D2 I2 Rd2 n2 s2) → Go 1500 231 1199 (lcs j) [] (mm L D2 I2 Rd2 n2 s2) Q) : Go 1500 231 426 (lcs j) [] (mm L D I Rd n s) Q := by
  refine go_s 0 rfl (go_chk rfl (sc_ix (k := 1) hb hL (by decide)).2 ?_)
  refine go_s 0 rfl (go_c rfl rfl (hop _ r D I Rd n s hI) (fun v m1 hm => ?_))
  obtain ⟨w, D1, I1, Rd1, n1, s1, rfl, ⟨x, rfl⟩, rfl, h0, hev⟩ := hm
  rw [← h0] at hev
  refine go_s 0 rfl (go_chk rfl (sc_ix (k := 1) hb hL (by decide)).2 ?_)
  refine go_s 0 rfl (go_c rfl rfl hev (fun v m2 hm => ?_))
  obtain ⟨rfl, D2, I2, Rd2, n2, s2, rfl, hJ⟩ := hm
  refine go_br rfl (fun _ => k _ _ _ _ _ hJ) (fun h => absurd rfl h)
theorem op_9 (hop : ∀ a0 a1 : Int32, OpOK L Inv false 50 125 [.int a0, .int a1]) {j : Nat} (hb : 6 * j + 6 ≤ L) (hL : L ≤ 384) (hI : Inv r (mm L D I Rd n s)) (k : ∀ D2 I2 Rd2 n2 s2, Inv (r + 1) (mm L D2 I2 Rd2 n2 s2) → Go 1500 231 1199 (lcs j) [] (mm L D2 I2 Rd2 n2 s2) Q) : Go 1500 231 449 (lcs j) [] (mm L D I Rd n s) Q := by
  refine go_s 0 rfl (go_chk rfl (sc_ix (k := 1) hb hL (by decide)).2 ?_)
  refine go_s 0 rfl (go_chk rfl (sc_ix (k := 2) hb hL (by decide)).2 ?_)
  refine go_s 0 rfl (go_c rfl rfl (hop _ _ r D I Rd n s hI) (fun v m1 hm => ?_))
  obtain ⟨w, D1, I1, Rd1, n1, s1, rfl, ⟨x, rfl⟩, rfl, h0, hev⟩ := hm
  rw [← h0] at hev
  refine go_s 0 rfl (go_chk rfl (sc_ix (k := 1) hb hL (by decide)).2 ?_)
  refine go_s 0 rfl (go_chk rfl (sc_ix (k := 2) hb hL (by decide)).2 ?_)
  refine go_s 0 rfl (go_c rfl rfl hev (fun v m2 hm => ?_))
  obtain ⟨rfl, D2, I2, Rd2, n2, s2, rfl, hJ⟩ := hm
  refine go_br rfl (fun _ => k _ _ _ _ _ hJ) (fun h => absurd rfl h)
theorem op_10 (hop : ∀ a0 a1 : Int32, OpOK L Inv false 54 133 [.int a0, .int a1]) {j : Nat} (hb : 6 * j + 6 ≤ L) (hL : L ≤ 384) (hI : Inv r (mm L D I Rd n s)) (k : ∀ D2 I2 Rd2 n2 s2, Inv (r + 1) (mm L D2 I2 Rd2 n2 s2) → Go 1500 231 1199 (lcs j) [] (mm L D2 I2 Rd2 n2 s2) Q) : Go 1500 231 482 (lcs j) [] (mm L D I Rd n s) Q := by
  refine go_s 0 rfl (go_chk rfl (sc_ix (k := 1) hb hL (by decide)).2 ?_)
  refine go_s 0 rfl (go_chk rfl (sc_ix (k := 2) hb hL (by decide)).2 ?_)
  refine go_s 0 rfl (go_c rfl rfl (hop _ _ r D I Rd n s hI) (fun v m1 hm => ?_))
  obtain ⟨w, D1, I1, Rd1, n1, s1, rfl, ⟨x, rfl⟩, rfl, h0, hev⟩ := hm
  rw [← h0] at hev
  refine go_s 0 rfl (go_chk rfl (sc_ix (k := 1) hb hL (by decide)).2 ?_)
  refine go_s 0 rfl (go_chk rfl (sc_ix (k := 2) hb hL (by decide)).2 ?_)
  refine go_s 0 rfl (go_c rfl rfl hev (fun v m2 hm => ?_))
  obtain ⟨rfl, D2, I2, Rd2, n2, s2, rfl, hJ⟩ := hm
  refine go_br rfl (fun _ => k _ _ _ _ _ hJ) (fun h => absurd rfl h)
theorem op_11 (hop : ∀ a0 a1 a2 : Int32, OpOK L Inv false 55 137 [.int a0, .int a1, .int a2]) {j : Nat} (hb : 6 * j + 6 ≤ L) (hL : L ≤ 384) (hI : Inv r (mm L D I Rd n s)) (k : ∀ D2 I2 Rd2 n2 s2, Inv (r + 1) (mm L D2 I2 Rd2 n2 s2) → Go 1500 231 1199 (lcs j) [] (mm L D2 I2 Rd2 n2 s2) Q) : Go 1500 231 515 (lcs j) [] (mm L D I Rd n s) Q := by
  refine go_s 0 rfl (go_chk rfl (sc_ix (k := 1) hb hL (by decide)).2 ?_)
  refine go_s 0 rfl (go_chk rfl (sc_ix (k := 2) hb hL (by decide)).2 ?_)
  refine go_s 0 rfl (go_chk rfl (sc_ix (k := 3) hb hL (by decide)).2 ?_)
  refine go_s 0 rfl (go_c rfl rfl (hop _ _ _ r D I Rd n s hI) (fun v m1 hm => ?_))
  obtain ⟨w, D1, I1, Rd1, n1, s1, rfl, ⟨x, rfl⟩, rfl, h0, hev⟩ := hm
  rw [← h0] at hev
  refine go_s 0 rfl (go_chk rfl (sc_ix (k := 1) hb hL (by decide)).2 ?_)
  refine go_s 0 rfl (go_chk rfl (sc_ix (k := 2) hb hL (by decide)).2 ?_)
  refine go_s 0 rfl (go_chk rfl (sc_ix (k := 3) hb hL (by decide)).2 ?_)
  refine go_s 0 rfl (go_c rfl rfl hev (fun v m2 hm => ?_))
  obtain ⟨rfl, D2, I2, Rd2, n2, s2, rfl, hJ⟩ := hm
  refine go_br rfl (fun _ => k _ _ _ _ _ hJ) (fun h => absurd rfl h)
theorem op_12 (hop : ∀ a0 a1 a2 : Int32, OpOK L Inv true 56 138 [.int a0, .int a1, .int a2]) {j : Nat} (hb : 6 * j + 6 ≤ L) (hL : L ≤ 384) (hI : Inv r (mm L D I Rd n s)) (k : ∀ D2 I2 Rd2 n2 s2, Inv (r + 1) (mm L D2 I2 Rd2 n2 s2) → Go 1500 231 1199 (lcs j) [] (mm L D2 I2 Rd2 n2 s2) Q) : Go 1500 231 558 (lcs j) [] (mm L D I Rd n s) Q := by
  refine go_s 0 rfl (go_chk rfl (sc_ix (k := 1) hb hL (by decide)).2 ?_)
  refine go_s 0 rfl (go_chk rfl (sc_ix (k := 2) hb hL (by decide)).2 ?_)
  refine go_s 0 rfl (go_chk rfl (sc_ix (k := 3) hb hL (by decide)).2 ?_)
  refine go_s 0 rfl (go_c rfl rfl (hop _ _ _ r D I Rd n s hI) (fun v m1 hm => ?_))
  obtain ⟨w, D1, I1, Rd1, n1, s1, rfl, ⟨x, rfl⟩, rfl, h0, hev⟩ := hm
  rw [← h0] at hev
  refine go_s 0 rfl (go_chk rfl (sc_ix (k := 1) hb hL (by decide)).2 ?_)
  refine go_s 0 rfl (go_chk rfl (sc_ix (k := 2) hb hL (by decide)).2 ?_)
  refine go_s 0 rfl (go_chk rfl (sc_ix (k := 3) hb hL (by decide)).2 ?_)
  refine go_s 0 rfl (go_c rfl rfl hev (fun v m2 hm => ?_))
  obtain ⟨rfl, D2, I2, Rd2, n2, s2, rfl, hJ⟩ := hm
  refine go_s 0 rfl (go_br rfl (fun _ => k _ _ _ _ _ hJ) (fun h => absurd (lcm_self x) h))
theorem op_13 (hop : ∀ a0 a1 : Int32, OpOK L Inv false 59 142 [.int a0, .int a1]) {j : Nat} (hb : 6 * j + 6 ≤ L) (hL : L ≤ 384) (hI : Inv r (mm L D I Rd n s)) (k : ∀ D2 I2 Rd2 n2 s2, Inv (r + 1) (mm L D2 I2 Rd2 n2 s2) → Go 1500 231 1199 (lcs j) [] (mm L D2 I2 Rd2 n2 s2) Q) : Go 1500 231 602 (lcs j) [] (mm L D I Rd n s) Q := by
  refine go_s 0 rfl (go_chk rfl (sc_ix (k := 1) hb hL (by decide)).2 ?_)
  refine go_s 0 rfl (go_chk rfl (sc_ix (k := 2) hb hL (by decide)).2 ?_)
  refine go_s 0 rfl (go_c rfl rfl (hop _ _ r D I Rd n s hI) (fun v m1 hm => ?_))
  obtain ⟨w, D1, I1, Rd1, n1, s1, rfl, ⟨x, rfl⟩, rfl, h0, hev⟩ := hm
  rw [← h0] at hev
  refine go_s 0 rfl (go_chk rfl (sc_ix (k := 1) hb hL (by decide)).2 ?_)
  refine go_s 0 rfl (go_chk rfl (sc_ix (k := 2) hb hL (by decide)).2 ?_)
  refine go_s 0 rfl (go_c rfl rfl hev (fun v m2 hm => ?_))
  obtain ⟨rfl, D2, I2, Rd2, n2, s2, rfl, hJ⟩ := hm
  refine go_br rfl (fun _ => k _ _ _ _ _ hJ) (fun h => absurd rfl h)
theorem op_14 (hop : ∀ a0 a1 a2 : Int32, OpOK L Inv false 60 143 [.int a0, .int a1, .int a2]) {j : Nat} (hb : 6 * j + 6 ≤ L) (hL : L ≤ 384) (hI : Inv r (mm L D I Rd n s)) (k : ∀ D2 I2 Rd2 n2 s2, Inv (r + 1) (mm L D2 I2 Rd2 n2 s2) → Go 1500 231 1199 (lcs j) [] (mm L D2 I2 Rd2 n2 s2) Q) : Go 1500 231 635 (lcs j) [] (mm L D I Rd n s) Q := by
  refine go_s 0 rfl (go_chk rfl (sc_ix (k := 1) hb hL (by decide)).2 ?_)
  refine go_s 0 rfl (go_chk rfl (sc_ix (k := 2) hb hL (by decide)).2 ?_)
  refine go_s 0 rfl (go_chk rfl (sc_ix (k := 3) hb hL (by decide)).2 ?_)
  refine go_s 0 rfl (go_c rfl rfl (hop _ _ _ r D I Rd n s hI) (fun v m1 hm => ?_))
  obtain ⟨w, D1, I1, Rd1, n1, s1, rfl, ⟨x, rfl⟩, rfl, h0, hev⟩ := hm
  rw [← h0] at hev
  refine go_s 0 rfl (go_chk rfl (sc_ix (k := 1) hb hL (by decide)).2 ?_)
  refine go_s 0 rfl (go_chk rfl (sc_ix (k := 2) hb hL (by decide)).2 ?_)
  refine go_s 0 rfl (go_chk rfl (sc_ix (k := 3) hb hL (by decide)).2 ?_)
  refine go_s 0 rfl (go_c rfl rfl hev (fun v m2 hm => ?_))
  obtain ⟨rfl, D2, I2, Rd2, n2, s2, rfl, hJ⟩ := hm
  refine go_br rfl (fun _ => k _ _ _ _ _ hJ) (fun h => absurd rfl h)
theorem op_15 (hop : ∀ a0 a1 : Int32, OpOK L Inv false 61 145 [.int a0, .int a1]) {j : Nat} (hb : 6 * j + 6 ≤ L) (hL : L ≤ 384) (hI : Inv r (mm L D I Rd n s)) (k : ∀ D2 I2 Rd2 n2 s2, Inv (r + 1) (mm L D2 I2 Rd2 n2 s2) → Go 1500 231 1199 (lcs j) [] (mm L D2 I2 Rd2 n2 s2) Q) : Go 1500 231 678 (lcs j) [] (mm L D I Rd n s) Q := by
  refine go_s 0 rfl (go_chk rfl (sc_ix (k := 1) hb hL (by decide)).2 ?_)
  refine go_s 0 rfl (go_chk rfl (sc_ix (k := 2) hb hL (by decide)).2 ?_)
  refine go_s 0 rfl (go_c rfl rfl (hop _ _ r D I Rd n s hI) (fun v m1 hm => ?_))
  obtain ⟨w, D1, I1, Rd1, n1, s1, rfl, ⟨x, rfl⟩, rfl, h0, hev⟩ := hm
  rw [← h0] at hev
  refine go_s 0 rfl (go_chk rfl (sc_ix (k := 1) hb hL (by decide)).2 ?_)
  refine go_s 0 rfl (go_chk rfl (sc_ix (k := 2) hb hL (by decide)).2 ?_)
  refine go_s 0 rfl (go_c rfl rfl hev (fun v m2 hm => ?_))
  obtain ⟨rfl, D2, I2, Rd2, n2, s2, rfl, hJ⟩ := hm
  refine go_br rfl (fun _ => k _ _ _ _ _ hJ) (fun h => absurd rfl h)
theorem op_16 (hop : ∀ a0 a1 a2 a3 a4 : Int32, OpOK L Inv false 62 148 [.int a0, .int a1, .int a2, .int a3, .int a4]) {j : Nat} (hb : 6 * j + 6 ≤ L) (hL : L ≤ 384) (hI : Inv r (mm L D I Rd n s)) (k : ∀ D2 I2 Rd2 n2 s2, Inv (r + 1) (mm L D2 I2 Rd2 n2 s2) → Go 1500 231 1199 (lcs j) [] (mm L D2 I2 Rd2 n2 s2) Q) : Go 1500 231 711 (lcs j) [] (mm L D I Rd n s) Q := by
  refine go_s 0 rfl (go_chk rfl (sc_ix (k := 1) hb hL (by decide)).2 ?_)
  refine go_s 0 rfl (go_chk rfl (sc_ix (k := 2) hb hL (by decide)).2 ?_)
  refine go_s 0 rfl (go_chk rfl (sc_ix (k := 3) hb hL (by decide)).2 ?_)
  refine go_s 0 rfl (go_chk rfl (sc_ix (k := 4) hb hL (by decide)).2 ?_)
  refine go_s 0 rfl (go_chk rfl (sc_ix (k := 5) hb hL (by decide)).2 ?_)
  refine go_s 0 rfl (go_c rfl rfl (hop _ _ _ _ _ r D I Rd n s hI) (fun v m1 hm => ?_))
  obtain ⟨w, D1, I1, Rd1, n1, s1, rfl, ⟨x, rfl⟩, rfl, h0, hev⟩ := hm
  rw [← h0] at hev
  refine go_s 0 rfl (go_chk rfl (sc_ix (k := 1) hb hL (by decide)).2 ?_)
  refine go_s 0 rfl (go_chk rfl (sc_ix (k := 2) hb hL (by decide)).2 ?_)
  refine go_s 0 rfl (go_chk rfl (sc_ix (k := 3) hb hL (by decide)).2 ?_)
  refine go_s 0 rfl (go_chk rfl (sc_ix (k := 4) hb hL (by decide)).2 ?_)
  refine go_s 0 rfl (go_chk rfl (sc_ix (k := 5) hb hL (by decide)).2 ?_)
  refine go_s 0 rfl (go_c rfl rfl hev (fun v m2 hm => ?_))
  obtain ⟨rfl, D2, I2, Rd2, n2, s2, rfl, hJ⟩ := hm
  refine go_br rfl (fun _ => k _ _ _ _ _ hJ) (fun h => absurd rfl h)
theorem op_17 (hop : ∀ a0 a1 : Int32, OpOK L Inv false 63 149 [.int a0, .int a1]) {j : Nat} (hb : 6 * j + 6 ≤ L) (hL : L ≤ 384) (hI : Inv r (mm L D I Rd n s)) (k : ∀ D2 I2 Rd2 n2 s2, Inv (r + 1) (mm L D2 I2 Rd2 n2 s2) → Go 1500 231 1199 (lcs j) [] (mm L D2 I2 Rd2 n2 s2) Q) : Go 1500 231 774 (lcs j) [] (mm L D I Rd n s) Q := by
  refine go_s 0 rfl (go_chk rfl (sc_ix (k := 1) hb hL (by decide)).2 ?_)
  refine go_s 0 rfl (go_chk rfl (sc_ix (k := 2) hb hL (by decide)).2 ?_)
  refine go_s 0 rfl (go_c rfl rfl (hop _ _ r D I Rd n s hI) (fun v m1 hm => ?_))
  obtain ⟨w, D1, I1, Rd1, n1, s1, rfl, ⟨x, rfl⟩, rfl, h0, hev⟩ := hm
  rw [← h0] at hev
  refine go_s 0 rfl (go_chk rfl (sc_ix (k := 1) hb hL (by decide)).2 ?_)
  refine go_s 0 rfl (go_chk rfl (sc_ix (k := 2) hb hL (by decide)).2 ?_)
  refine go_s 0 rfl (go_c rfl rfl hev (fun v m2 hm => ?_))
  obtain ⟨rfl, D2, I2, Rd2, n2, s2, rfl, hJ⟩ := hm
  refine go_br rfl (fun _ => k _ _ _ _ _ hJ) (fun h => absurd rfl h)
theorem op_18 (hop : ∀ a0 a1 : Int32, OpOK L Inv false 65 150 [.int a0, .int a1]) {j : Nat} (hb : 6 * j + 6 ≤ L) (hL : L ≤ 384) (hI : Inv r (mm L D I Rd n s)) (k : ∀ D2 I2 Rd2 n2 s2, Inv (r + 1) (mm L D2 I2 Rd2 n2 s2) → Go 1500 231 1199 (lcs j) [] (mm L D2 I2 Rd2 n2 s2) Q) : Go 1500 231 807 (lcs j) [] (mm L D I Rd n s) Q := by
  refine go_s 0 rfl (go_chk rfl (sc_ix (k := 1) hb hL (by decide)).2 ?_)
  refine go_s 0 rfl (go_chk rfl (sc_ix (k := 2) hb hL (by decide)).2 ?_)
  refine go_s 0 rfl (go_c rfl rfl (hop _ _ r D I Rd n s hI) (fun v m1 hm => ?_))
  obtain ⟨w, D1, I1, Rd1, n1, s1, rfl, ⟨x, rfl⟩, rfl, h0, hev⟩ := hm
  rw [← h0] at hev
  refine go_s 0 rfl (go_chk rfl (sc_ix (k := 1) hb hL (by decide)).2 ?_)
  refine go_s 0 rfl (go_chk rfl (sc_ix (k := 2) hb hL (by decide)).2 ?_)
  refine go_s 0 rfl (go_c rfl rfl hev (fun v m2 hm => ?_))
  obtain ⟨rfl, D2, I2, Rd2, n2, s2, rfl, hJ⟩ := hm
  refine go_br rfl (fun _ => k _ _ _ _ _ hJ) (fun h => absurd rfl h)
theorem op_19 (hop : ∀ a0 a1 a2 : Int32, (a2 = 0 ∨ a2 = 1) → OpOK L Inv false 67 154 [.int a0, .int a1, .int a2]) {j : Nat} (hb : 6 * j + 6 ≤ L) (hL : L ≤ 384) (hI : Inv r (mm L D I Rd n s)) (k : ∀ D2 I2 Rd2 n2 s2, Inv (r + 1) (mm L D2 I2 Rd2 n2 s2) → Go 1500 231 1199 (lcs j) [] (mm L D2 I2 Rd2 n2 s2) Q) : Go 1500 231 840 (lcs j) [] (mm L D I Rd n s) Q := by
  refine go_s 0 rfl (go_chk rfl (sc_ix (k := 1) hb hL (by decide)).2 ?_)
  refine go_s 0 rfl (go_chk rfl (sc_ix (k := 2) hb hL (by decide)).2 ?_)
  refine go_s 0 rfl (go_chk rfl (sc_ix (k := 3) hb hL (by decide)).2 ?_)
  refine go_s 0 rfl (go_br rfl (fun hz => ?_) (fun hz => ?_))
  · skip
    refine go_s 0 rfl (go_c rfl rfl (hop _ _ _ (Or.inl rfl) r D I Rd n s hI) (fun v m1 hm => ?_))
    obtain ⟨w, D1, I1, Rd1, n1, s1, rfl, ⟨x, rfl⟩, rfl, h0, hev⟩ := hm
    rw [← h0] at hev
    refine go_s 0 rfl (go_chk rfl (sc_ix (k := 1) hb hL (by decide)).2 ?_)
    refine go_s 0 rfl (go_chk rfl (sc_ix (k := 2) hb hL (by decide)).2 ?_)
    refine go_s 0 rfl (go_chk rfl (sc_ix (k := 3) hb hL (by decide)).2 ?_)
    refine go_s 0 rfl (go_br rfl (fun hy => ?_) (fun hy => ?_))
    · skip
      refine go_s 0 rfl (go_c rfl rfl hev (fun v m2 hm => ?_))
      obtain ⟨rfl, D2, I2, Rd2, n2, s2, rfl, hJ⟩ := hm
      refine go_br rfl (fun _ => k _ _ _ _ _ hJ) (fun h => absurd rfl h)
    · exact absurd (by rw [← h0] at hz; exact hz) hy
  · skip
    refine go_s 0 rfl (go_c rfl rfl (hop _ _ _ (Or.inr rfl) r D I Rd n s hI) (fun v m1 hm => ?_))
    obtain ⟨w, D1, I1, Rd1, n1, s1, rfl, ⟨x, rfl⟩, rfl, h0, hev⟩ := hm
    rw [← h0] at hev
    refine go_s 0 rfl (go_chk rfl (sc_ix (k := 1) hb hL (by decide)).2 ?_)
    refine go_s 0 rfl (go_chk rfl (sc_ix (k := 2) hb hL (by decide)).2 ?_)
    refine go_s 0 rfl (go_chk rfl (sc_ix (k := 3) hb hL (by decide)).2 ?_)
    refine go_s 0 rfl (go_br rfl (fun hy => ?_) (fun hy => ?_))
    · exact absurd hy (by rw [← h0] at hz; exact hz)
    · skip
      refine go_s 0 rfl (go_c rfl rfl hev (fun v m2 hm => ?_))
      obtain ⟨rfl, D2, I2, Rd2, n2, s2, rfl, hJ⟩ := hm
      refine go_br rfl (fun _ => k _ _ _ _ _ hJ) (fun h => absurd rfl h)
theorem op_20 (hop : ∀ a0 a1 a2 a3 a4 : Int32, (a3 = 0 ∨ a3 = 1) → OpOK L Inv false 70 158 [.int a0, .int a1, .int a2, .int a3, .int a4]) {j : Nat} (hb : 6 * j + 6 ≤ L) (hL : L ≤ 384) (hI : Inv r (mm L D I Rd n s)) (k : ∀ D2 I2 Rd2 n2 s2, Inv (r + 1) (mm L D2 I2 Rd2 n2 s2) → Go 1500 231 1199 (lcs j) [] (mm L D2 I2 Rd2 n2 s2) Q) : Go 1500 231 899 (lcs j) [] (mm L D I Rd n s) Q := by
  refine go_s 0 rfl (go_chk rfl (sc_ix (k := 1) hb hL (by decide)).2 ?_)
  refine go_s 0 rfl (go_chk rfl (sc_ix (k := 2) hb hL (by decide)).2 ?_)
  refine go_s 0 rfl (go_chk rfl (sc_ix (k := 3) hb hL (by decide)).2 ?_)
  refine go_s 0 rfl (go_chk rfl (sc_ix (k := 4) hb hL (by decide)).2 ?_)
  refine go_s 0 rfl (go_br rfl (fun hz => ?_) (fun hz => ?_))
  · skip
    refine go_s 0 rfl (go_chk rfl (sc_ix (k := 5) hb hL (by decide)).2 ?_)
    refine go_s 0 rfl (go_c rfl rfl (hop _ _ _ _ _ (Or.inl rfl) r D I Rd n s hI) (fun v m1 hm => ?_))
    obtain ⟨w, D1, I1, Rd1, n1, s1, rfl, ⟨x, rfl⟩, rfl, h0, hev⟩ := hm
    rw [← h0] at hev
    refine go_s 0 rfl (go_chk rfl (sc_ix (k := 1) hb hL (by decide)).2 ?_)
    refine go_s 0 rfl (go_chk rfl (sc_ix (k := 2) hb hL (by decide)).2 ?_)
    refine go_s 0 rfl (go_chk rfl (sc_ix (k := 3) hb hL (by decide)).2 ?_)
    refine go_s 0 rfl (go_chk rfl (sc_ix (k := 4) hb hL (by decide)).2 ?_)
    refine go_s 0 rfl (go_br rfl (fun hy => ?_) (fun hy => ?_))
    · skip
      refine go_s 0 rfl (go_chk rfl (sc_ix (k := 5) hb hL (by decide)).2 ?_)
      refine go_s 0 rfl (go_c rfl rfl hev (fun v m2 hm => ?_))
      obtain ⟨rfl, D2, I2, Rd2, n2, s2, rfl, hJ⟩ := hm
      refine go_br rfl (fun _ => k _ _ _ _ _ hJ) (fun h => absurd rfl h)
    · exact absurd (by rw [← h0] at hz; exact hz) hy
  · skip
    refine go_s 0 rfl (go_chk rfl (sc_ix (k := 5) hb hL (by decide)).2 ?_)
    refine go_s 0 rfl (go_c rfl rfl (hop _ _ _ _ _ (Or.inr rfl) r D I Rd n s hI) (fun v m1 hm => ?_))
    obtain ⟨w, D1, I1, Rd1, n1, s1, rfl, ⟨x, rfl⟩, rfl, h0, hev⟩ := hm
    rw [← h0] at hev
    refine go_s 0 rfl (go_chk rfl (sc_ix (k := 1) hb hL (by decide)).2 ?_)
    refine go_s 0 rfl (go_chk rfl (sc_ix (k := 2) hb hL (by decide)).2 ?_)
    refine go_s 0 rfl (go_chk rfl (sc_ix (k := 3) hb hL (by decide)).2 ?_)
    refine go_s 0 rfl (go_chk rfl (sc_ix (k := 4) hb hL (by decide)).2 ?_)
    refine go_s 0 rfl (go_br rfl (fun hy => ?_) (fun hy => ?_))
    · exact absurd hy (by rw [← h0] at hz; exact hz)
    · skip
      refine go_s 0 rfl (go_chk rfl (sc_ix (k := 5) hb hL (by decide)).2 ?_)
      refine go_s 0 rfl (go_c rfl rfl hev (fun v m2 hm => ?_))
      obtain ⟨rfl, D2, I2, Rd2, n2, s2, rfl, hJ⟩ := hm
      refine go_br rfl (fun _ => k _ _ _ _ _ hJ) (fun h => absurd rfl h)
theorem op_21 (hop : ∀ a0 a1 : Int32, OpOK L Inv false 72 161 [.int a0, .int a1]) {j : Nat} (hb : 6 * j + 6 ≤ L) (hL : L ≤ 384) (hI : Inv r (mm L D I Rd n s)) (k : ∀ D2 I2 Rd2 n2 s2, Inv (r + 1) (mm L D2 I2 Rd2 n2 s2) → Go 1500 231 1199 (lcs j) [] (mm L D2 I2 Rd2 n2 s2) Q) : Go 1500 231 978 (lcs j) [] (mm L D I Rd n s) Q := by
  refine go_s 0 rfl (go_chk rfl (sc_ix (k := 1) hb hL (by decide)).2 ?_)
  refine go_s 0 rfl (go_chk rfl (sc_ix (k := 2) hb hL (by decide)).2 ?_)
  refine go_s 0 rfl (go_c rfl rfl (hop _ _ r D I Rd n s hI) (fun v m1 hm => ?_))
  obtain ⟨w, D1, I1, Rd1, n1, s1, rfl, ⟨x, rfl⟩, rfl, h0, hev⟩ := hm
  rw [← h0] at hev
  refine go_s 0 rfl (go_chk rfl (sc_ix (k := 1) hb hL (by decide)).2 ?_)
  refine go_s 0 rfl (go_chk rfl (sc_ix (k := 2) hb hL (by decide)).2 ?_)
  refine go_s 0 rfl (go_c rfl rfl hev (fun v m2 hm => ?_))
  obtain ⟨rfl, D2, I2, Rd2, n2, s2, rfl, hJ⟩ := hm
  refine go_br rfl (fun _ => k _ _ _ _ _ hJ) (fun h => absurd rfl h)
theorem op_22 (hop : ∀ a0 a1 : Int32, OpOK L Inv false 73 162 [.int a0, .int a1]) {j : Nat} (hb : 6 * j + 6 ≤ L) (hL : L ≤ 384) (hI : Inv r (mm L D I Rd n s)) (k : ∀ D2 I2 Rd2 n2 s2, Inv (r + 1) (mm L D2 I2 Rd2 n2 s2) → Go 1500 231 1199 (lcs j) [] (mm L D2 I2 Rd2 n2 s2) Q) : Go 1500 231 1011 (lcs j) [] (mm L D I Rd n s) Q := by
  refine go_s 0 rfl (go_chk rfl (sc_ix (k := 1) hb hL (by decide)).2 ?_)
  refine go_s 0 rfl (go_chk rfl (sc_ix (k := 2) hb hL (by decide)).2 ?_)
  refine go_s 0 rfl (go_c rfl rfl (hop _ _ r D I Rd n s hI) (fun v m1 hm => ?_))
  obtain ⟨w, D1, I1, Rd1, n1, s1, rfl, ⟨x, rfl⟩, rfl, h0, hev⟩ := hm
  rw [← h0] at hev
  refine go_s 0 rfl (go_chk rfl (sc_ix (k := 1) hb hL (by decide)).2 ?_)
  refine go_s 0 rfl (go_chk rfl (sc_ix (k := 2) hb hL (by decide)).2 ?_)
  refine go_s 0 rfl (go_c rfl rfl hev (fun v m2 hm => ?_))
  obtain ⟨rfl, D2, I2, Rd2, n2, s2, rfl, hJ⟩ := hm
  refine go_br rfl (fun _ => k _ _ _ _ _ hJ) (fun h => absurd rfl h)
theorem op_23 (hop : ∀ a0 a1 : Int32, OpOK L Inv false 75 163 [.int a0, .int a1]) {j : Nat} (hb : 6 * j + 6 ≤ L) (hL : L ≤ 384) (hI : Inv r (mm L D I Rd n s)) (k : ∀ D2 I2 Rd2 n2 s2, Inv (r + 1) (mm L D2 I2 Rd2 n2 s2) → Go 1500 231 1199 (lcs j) [] (mm L D2 I2 Rd2 n2 s2) Q) : Go 1500 231 1044 (lcs j) [] (mm L D I Rd n s) Q := by
  refine go_s 0 rfl (go_chk rfl (sc_ix (k := 1) hb hL (by decide)).2 ?_)
  refine go_s 0 rfl (go_chk rfl (sc_ix (k := 2) hb hL (by decide)).2 ?_)
  refine go_s 0 rfl (go_c rfl rfl (hop _ _ r D I Rd n s hI) (fun v m1 hm => ?_))
  obtain ⟨w, D1, I1, Rd1, n1, s1, rfl, ⟨x, rfl⟩, rfl, h0, hev⟩ := hm
  rw [← h0] at hev
  refine go_s 0 rfl (go_chk rfl (sc_ix (k := 1) hb hL (by decide)).2 ?_)
  refine go_s 0 rfl (go_chk rfl (sc_ix (k := 2) hb hL (by decide)).2 ?_)
  refine go_s 0 rfl (go_c rfl rfl hev (fun v m2 hm => ?_))
  obtain ⟨rfl, D2, I2, Rd2, n2, s2, rfl, hJ⟩ := hm
  refine go_br rfl (fun _ => k _ _ _ _ _ hJ) (fun h => absurd rfl h)
theorem op_24 (hop : ∀ a0 a1 a2 : Int32, OpOK L Inv false 77 167 [.int a0, .int a1, .int a2]) {j : Nat} (hb : 6 * j + 6 ≤ L) (hL : L ≤ 384) (hI : Inv r (mm L D I Rd n s)) (k : ∀ D2 I2 Rd2 n2 s2, Inv (r + 1) (mm L D2 I2 Rd2 n2 s2) → Go 1500 231 1199 (lcs j) [] (mm L D2 I2 Rd2 n2 s2) Q) : Go 1500 231 1077 (lcs j) [] (mm L D I Rd n s) Q := by
  refine go_s 0 rfl (go_chk rfl (sc_ix (k := 1) hb hL (by decide)).2 ?_)
  refine go_s 0 rfl (go_chk rfl (sc_ix (k := 2) hb hL (by decide)).2 ?_)
  refine go_s 0 rfl (go_chk rfl (sc_ix (k := 3) hb hL (by decide)).2 ?_)
  refine go_s 0 rfl (go_c rfl rfl (hop _ _ _ r D I Rd n s hI) (fun v m1 hm => ?_))
  obtain ⟨w, D1, I1, Rd1, n1, s1, rfl, ⟨x, rfl⟩, rfl, h0, hev⟩ := hm
  rw [← h0] at hev
  refine go_s 0 rfl (go_chk rfl (sc_ix (k := 1) hb hL (by decide)).2 ?_)
  refine go_s 0 rfl (go_chk rfl (sc_ix (k := 2) hb hL (by decide)).2 ?_)
  refine go_s 0 rfl (go_chk rfl (sc_ix (k := 3) hb hL (by decide)).2 ?_)
  refine go_s 0 rfl (go_c rfl rfl hev (fun v m2 hm => ?_))
  obtain ⟨rfl, D2, I2, Rd2, n2, s2, rfl, hJ⟩ := hm
  refine go_br rfl (fun _ => k _ _ _ _ _ hJ) (fun h => absurd rfl h)
theorem op_25 (hop : ∀ a0 a1 a2 a3 a4 : Int32, (a3 = 0 ∨ a3 = 1) → OpOK L Inv false 78 168 [.int a0, .int a1, .int a2, .int a3, .int a4]) {j : Nat} (hb : 6 * j + 6 ≤ L) (hL : L ≤ 384) (hI : Inv r (mm L D I Rd n s)) (k : ∀ D2 I2 Rd2 n2 s2, Inv (r + 1) (mm L D2 I2 Rd2 n2 s2) → Go 1500 231 1199 (lcs j) [] (mm L D2 I2 Rd2 n2 s2) Q) : Go 1500 231 1120 (lcs j) [] (mm L D I Rd n s) Q := by
  refine go_s 0 rfl (go_chk rfl (sc_ix (k := 1) hb hL (by decide)).2 ?_)
  refine go_s 0 rfl (go_chk rfl (sc_ix (k := 2) hb hL (by decide)).2 ?_)
  refine go_s 0 rfl (go_chk rfl (sc_ix (k := 3) hb hL (by decide)).2 ?_)
  refine go_s 0 rfl (go_chk rfl (sc_ix (k := 4) hb hL (by decide)).2 ?_)
  refine go_s 0 rfl (go_br rfl (fun hz => ?_) (fun hz => ?_))
  · skip
    refine go_s 0 rfl (go_chk rfl (sc_ix (k := 5) hb hL (by decide)).2 ?_)
    refine go_s 0 rfl (go_c rfl rfl (hop _ _ _ _ _ (Or.inl rfl) r D I Rd n s hI) (fun v m1 hm => ?_))
    obtain ⟨w, D1, I1, Rd1, n1, s1, rfl, ⟨x, rfl⟩, rfl, h0, hev⟩ := hm
    rw [← h0] at hev
    refine go_s 0 rfl (go_chk rfl (sc_ix (k := 1) hb hL (by decide)).2 ?_)
    refine go_s 0 rfl (go_chk rfl (sc_ix (k := 2) hb hL (by decide)).2 ?_)
    refine go_s 0 rfl (go_chk rfl (sc_ix (k := 3) hb hL (by decide)).2 ?_)
    refine go_s 0 rfl (go_chk rfl (sc_ix (k := 4) hb hL (by decide)).2 ?_)
    refine go_s 0 rfl (go_br rfl (fun hy => ?_) (fun hy => ?_))
    · skip
      refine go_s 0 rfl (go_chk rfl (sc_ix (k := 5) hb hL (by decide)).2 ?_)
      refine go_s 0 rfl (go_c rfl rfl hev (fun v m2 hm => ?_))
      obtain ⟨rfl, D2, I2, Rd2, n2, s2, rfl, hJ⟩ := hm
      refine go_br rfl (fun _ => k _ _ _ _ _ hJ) (fun h => absurd rfl h)
    · exact absurd (by rw [← h0] at hz; exact hz) hy
  · skip
    refine go_s 0 rfl (go_chk rfl (sc_ix (k := 5) hb hL (by decide)).2 ?_)
    refine go_s 0 rfl (go_c rfl rfl (hop _ _ _ _ _ (Or.inr rfl) r D I Rd n s hI) (fun v m1 hm => ?_))
    obtain ⟨w, D1, I1, Rd1, n1, s1, rfl, ⟨x, rfl⟩, rfl, h0, hev⟩ := hm
    rw [← h0] at hev
    refine go_s 0 rfl (go_chk rfl (sc_ix (k := 1) hb hL (by decide)).2 ?_)
    refine go_s 0 rfl (go_chk rfl (sc_ix (k := 2) hb hL (by decide)).2 ?_)
    refine go_s 0 rfl (go_chk rfl (sc_ix (k := 3) hb hL (by decide)).2 ?_)
    refine go_s 0 rfl (go_chk rfl (sc_ix (k := 4) hb hL (by decide)).2 ?_)
    refine go_s 0 rfl (go_br rfl (fun hy => ?_) (fun hy => ?_))
    · exact absurd hy (by rw [← h0] at hz; exact hz)
    · skip
      refine go_s 0 rfl (go_chk rfl (sc_ix (k := 5) hb hL (by decide)).2 ?_)
      refine go_s 0 rfl (go_c rfl rfl hev (fun v m2 hm => ?_))
      obtain ⟨rfl, D2, I2, Rd2, n2, s2, rfl, hJ⟩ := hm
      refine go_br rfl (fun _ => k _ _ _ _ _ hJ) (fun h => absurd rfl h)
/-- all 26 operations -/
def AllOps (L : Nat) (Inv : Nat → Mem → Prop) : Prop :=
  (OpOK L Inv false 33 88 []) ∧
  (∀ a0 a1 a2 a3 a4 : Int32, OpOK L Inv false 35 89 [.int a0, .int a1, .int a2, .int a3, .int a4]) ∧
  (∀ a0 a1 : Int32, OpOK L Inv false 39 93 [.int a0, .int a1]) ∧
  (∀ a0 a1 : Int32, OpOK L Inv false 40 94 [.int a0, .int a1]) ∧
  (∀ a0 : Int32, OpOK L Inv false 43 98 [.int a0]) ∧
  (∀ a0 a1 a2 a3 a4 : Int32, OpOK L Inv false 44 100 [.int a0, .int a1, .int a2, .int a3, .int a4]) ∧
  (∀ a0 : Int32, OpOK L Inv false 46 102 [.int a0]) ∧
  (∀ a0 : Int32, OpOK L Inv false 47 103 [.int a0]) ∧
  (∀ a0 : Int32, OpOK L Inv false 49 124 [.int a0]) ∧
  (∀ a0 a1 : Int32, OpOK L Inv false 50 125 [.int a0, .int a1]) ∧
  (∀ a0 a1 : Int32, OpOK L Inv false 54 133 [.int a0, .int a1]) ∧
  (∀ a0 a1 a2 : Int32, OpOK L Inv false 55 137 [.int a0, .int a1, .int a2]) ∧
  (∀ a0 a1 a2 : Int32, OpOK L Inv true 56 138 [.int a0, .int a1, .int a2]) ∧
  (∀ a0 a1 : Int32, OpOK L Inv false 59 142 [.int a0, .int a1]) ∧
  (∀ a0 a1 a2 : Int32, OpOK L Inv false 60 143 [.int a0, .int a1, .int a2]) ∧
  (∀ a0 a1 : Int32, OpOK L Inv false 61 145 [.int a0, .int a1]) ∧
  (∀ a0 a1 a2 a3 a4 : Int32, OpOK L Inv false 62 148 [.int a0, .int a1, .int a2, .int a3, .int a4]) ∧
  (∀ a0 a1 : Int32, OpOK L Inv false 63 149 [.int a0, .int a1]) ∧
  (∀ a0 a1 : Int32, OpOK L Inv false 65 150 [.int a0, .int a1]) ∧
  (∀ a0 a1 a2 : Int32, (a2 = 0 ∨ a2 = 1) → OpOK L Inv false 67 154 [.int a0, .int a1, .int a2]) ∧
  (∀ a0 a1 a2 a3 a4 : Int32, (a3 = 0 ∨ a3 = 1) → OpOK L Inv false 70 158 [.int a0, .int a1, .int a2, .int a3, .int a4]) ∧
  (∀ a0 a1 : Int32, OpOK L Inv false 72 161 [.int a0, .int a1]) ∧
  (∀ a0 a1 : Int32, OpOK L Inv false 73 162 [.int a0, .int a1]) ∧
  (∀ a0 a1 : Int32, OpOK L Inv false 75 163 [.int a0, .int a1]) ∧
  (∀ a0 a1 a2 : Int32, OpOK L Inv false 77 167 [.int a0, .int a1, .int a2]) ∧
  (∀ a0 a1 a2 a3 a4 : Int32, (a3 = 0 ∨ a3 = 1) → OpOK L Inv false 78 168 [.int a0, .int a1, .int a2, .int a3, .int a4])
theorem go_tsw {d y pc : Nat} {Lc : Lcs} {S S' : List Value} {m : Mem} {dflt lo hi : Int} {offs : Array Int} {x : Int32} (h : cmd y pc Lc S' m = swT pc dflt lo hi offs Lc (.int x :: S) m) (hsz : hi < lo + offs.size)
    (k1 : Go d y ((pc : Int) + dflt).toNat Lc S m Q) (k2 : ∀ (i : Nat) (o : Int), offs[i]? = some o → Go d y ((pc : Int) + o).toNat Lc S m Q) : Go d y pc Lc S' m Q := by
  unfold swT at h
  dsimp only at h
  by_cases hc : x.toInt < lo ∨ hi < x.toInt
  · rw [if_pos hc] at h
    exact go_nx h k1
  · rw [if_neg hc] at h
    have hlt : (x.toInt - lo).toNat < offs.size := by omega
    have ho : offs[(x.toInt - lo).toNat]? = some offs[(x.toInt - lo).toNat] := Array.getElem?_eq_getElem hlt
    rw [ho] at h
    exact go_nx h (k2 _ _ ho)
theorem law_sub {L j : Nat} (hL : L ≤ 384) (hj : j ≤ 64) : Int32.ofNat L - 6 < Int32.ofNat (6 * j) ↔ ¬ 6 * j + 6 ≤ L := by
  have e1 : (Int32.ofNat L).toInt = L := Int32.toInt_ofNat_small (by omega)
  have e2 : (Int32.ofNat (6 * j)).toInt = ((6 * j : Nat) : Int) := Int32.toInt_ofNat_small (by omega)
  have e3 : (6 : Int32).toInt = 6 := rfl
  rw [Int32.lt_iff_toInt_lt, Int32.toInt_sub, e1, e2, e3, Int.bmod_eq_of_le (by omega) (by omega)]
  omega
theorem law_case (h : AllOps L Inv) {j : Nat} {x : Int32} (hb : 6 * j + 6 ≤ L) (hL : L ≤ 384) (hI : Inv r (mm L D I Rd n s)) (k : ∀ D2 I2 Rd2 n2 s2, Inv (r + 1) (mm L D2 I2 Rd2 n2 s2) → Go 1500 231 1199 (lcs j) [] (mm L D2 I2 Rd2 n2 s2) Q)
    (k0 : Go 1500 231 1199 (lcs j) [] (mm L D I Rd n s) Q) : Go 1500 231 33 (lcs j) [.int x] (mm L D I Rd n s) Q := by
  obtain ⟨h0, h1, h2, h3, h4, h5, h6, h7, h8, h9, h10, h11, h12, h13, h14, h15, h16, h17, h18, h19, h20, h21, h22, h23, h24, h25⟩ := h
  refine go_tsw (S := []) (x := x) rfl (by decide) k0 (fun i o ho => ?_)
  match i with
  | 0 => cases ho; exact op_0 h0 hb hL hI k
  | 1 => cases ho; exact op_1 h1 hb hL hI k
  | 2 => cases ho; exact op_2 h2 hb hL hI k
  | 3 => cases ho; exact op_3 h3 hb hL hI k
  | 4 => cases ho; exact op_4 h4 hb hL hI k
  | 5 => cases ho; exact op_5 h5 hb hL hI k
  | 6 => cases ho; exact op_6 h6 hb hL hI k
  | 7 => cases ho; exact op_7 h7 hb hL hI k
  | 8 => cases ho; exact op_8 h8 hb hL hI k
  | 9 => cases ho; exact op_9 h9 hb hL hI k
  | 10 => cases ho; exact op_10 h10 hb hL hI k
  | 11 => cases ho; exact op_11 h11 hb hL hI k
  | 12 => cases ho; exact op_12 h12 hb hL hI k
  | 13 => cases ho; exact op_13 h13 hb hL hI k
  | 14 => cases ho; exact op_14 h14 hb hL hI k
  | 15 => cases ho; exact op_15 h15 hb hL hI k
  | 16 => cases ho; exact op_16 h16 hb hL hI k
  | 17 => cases ho; exact op_17 h17 hb hL hI k
  | 18 => cases ho; exact op_18 h18 hb hL hI k
  | 19 => cases ho; exact op_19 h19 hb hL hI k
  | 20 => cases ho; exact op_20 h20 hb hL hI k
  | 21 => cases ho; exact op_21 h21 hb hL hI k
  | 22 => cases ho; exact op_22 h22 hb hL hI k
  | 23 => cases ho; exact op_23 h23 hb hL hI k
  | 24 => cases ho; exact op_24 h24 hb hL hI k
  | 25 => cases ho; exact op_25 h25 hb hL hI k
  | q + 26 => cases ho
theorem law_loop (h : AllOps L Inv) (hL : L ≤ 384) : ∀ (t j r : Nat) (D : Nat → Nat × Nat) (I : Nat → Nat → Int32) (Rd : Nat → Nat → Option Nat) (n s : Nat), j + t = 64 → r ≤ j → Inv r (mm L D I Rd n s) → (∀ r m, Inv r m → Inv (r + 1) m) →
    Go 1500 231 18 (lcs j) [] (mm L D I Rd n s) (fun q => ∃ m2, q = (.inl (some (.int 1)), m2) ∧ Inv 64 m2) := by
  intro t
  have up : (∀ r m, Inv r m → Inv (r + 1) m) → ∀ (a b : Nat) (m : Mem), a ≤ b → Inv a m → Inv b m := fun hu a b m hab h => by
    induction hab with
    | refl => exact h
    | step _ ih => exact hu _ _ ih
  induction t with
  | zero =>
    intro j r D I Rd n s hj hr hI hu
    refine go_s 0 rfl (go_br rfl (fun _ => ?_) (fun q => ?_))
    · exact go_s 0 rfl (go_ret rfl ⟨_, rfl, up hu _ _ _ (by omega) hI⟩)
    · exfalso
      exact q ((law_sub hL (by omega)).mpr (by omega))
  | succ t ih =>
    intro j r D I Rd n s hj hr hI hu
    refine go_s 0 rfl (go_br rfl (fun _ => ?_) (fun q => ?_))
    · exact go_s 0 rfl (go_ret rfl ⟨_, rfl, up hu _ _ _ (by omega) hI⟩)
    · have hb : 6 * j + 6 ≤ L := Decidable.not_not.mp (fun z => q ((law_sub hL (by omega)).mpr z))
      have nxt : ∀ r' D2 I2 Rd2 n2 s2, r' ≤ j + 1 → Inv r' (mm L D2 I2 Rd2 n2 s2) → Go 1500 231 1199 (lcs j) [] (mm L D2 I2 Rd2 n2 s2) (fun q => ∃ m2, q = (.inl (some (.int 1)), m2) ∧ Inv 64 m2) := fun r' D2 I2 Rd2 n2 s2 hr' hJ => by
        refine go_s 0 rfl ?_
        have e : Int32.ofNat (6 * j) + 6 = Int32.ofNat (6 * (j + 1)) := by
          rw [show 6 * (j + 1) = 6 * j + 6 by omega, Int32.ofNat_add]
          rfl
        show Go 1500 231 18 [some (.ref 0), some (.ref 281), some (.ref 305), some (.int (Int32.ofNat (6 * j) + 6))] [] (mm L D2 I2 Rd2 n2 s2) _
        rw [e]
        exact ih (j + 1) r' D2 I2 Rd2 n2 s2 (by omega) hr' hJ hu
      refine go_s 0 rfl (go_chk rfl (nI_ix (by omega) (by omega)) ?_)
      refine go_s 33 rfl ?_
      exact law_case h hb hL hI (fun D2 I2 Rd2 n2 s2 hJ => nxt (r + 1) _ _ _ _ _ (by omega) hJ) (nxt r _ _ _ _ _ (by omega) hI)
end LG
