/-! A RULE'S TERMS: what the objects mean, what they answer -/
set_option maxRecDepth 100000
theorem t29 {d S : Nat} {m : Mem} (h : S < 1024) : Ev d 29 [.int (nI S)] m (Rt (Is (some (.int (nI (popS S)))) m)) := by
  have e := bc_n h
  refine ev_in rfl (go_t 0 rfl (go_ret rfl ⟨?_, rfl⟩))
  rw [← e]
  rfl
/-- a code, from the left -/
def rnL (lf : Int32 → Int32 → Int32) : List (Int32 × Int32) → List Int32 → List Int32
  | [], st => st
  | (o, v) :: c, st => rnL lf c (stp lf o v st)
theorem rnL_app {lf : Int32 → Int32 → Int32} : ∀ {c c' : List (Int32 × Int32)} {st : List Int32}, rnL lf (c ++ c') st = rnL lf c' (rnL lf c st) := by
  intro c
  induction c with
  | nil => intro c' st; rfl
  | cons x c ih => intro c' st; obtain ⟨o, v⟩ := x; exact ih
/-- a code that leaves one value -/
def Vl (lf : Int32 → Int32 → Int32) (c : List (Int32 × Int32)) (v : Int32) : Prop := ∀ st, rnL lf c st = v :: st
theorem Vl.leaf {lf : Int32 → Int32 → Int32} {o v : Int32} (h : o ≤ 3) : Vl lf [(o, v)] (lf o v) := fun st => by
  show stp lf o v st = _
  rw [stp_l h]
theorem Vl.not {lf : Int32 → Int32 → Int32} {c : List (Int32 × Int32)} {v : Int32} (h : Vl lf c v) : Vl lf (c ++ [(10, 0)]) (1 - v) := fun st => by
  rw [rnL_app, h st]
  show stp lf 10 0 (v :: st) = _
  rw [stp_n (by decide) rfl]
theorem Vl.two {lf : Int32 → Int32 → Int32} {c c' : List (Int32 × Int32)} {o v w : Int32} (h : Vl lf c v) (h' : Vl lf c' w) (ho : ¬ o ≤ 3) (ho2 : ¬ o = 10) : Vl lf (c ++ c' ++ [(o, 0)]) (twS o v w) := fun st => by
  rw [rnL_app, rnL_app, h st, h' (v :: st)]
  show stp lf o 0 (w :: v :: st) = _
  rw [stp_2 ho ho2]
/-- a row's sign as an instruction -/
def opR (kd sg : Nat) : Int32 := if kd = 14 then (if sg = 43 then 4 else 5) else if kd = 15 then 6 else if kd = 8 then 12 else if kd = 9 then 11 else if sg = 60 then 7 else if sg = 61 then 8 else 9
theorem opR_ok (kd sg : Nat) : ¬ opR kd sg ≤ 3 ∧ ¬ opR kd sg = 10 := by
  unfold opR
  repeat (first | (split) | exact ⟨by decide, by decide⟩)
def rwC (cs : Nat → List (Int32 × Int32)) (op : Nat → Int32) : Nat → List (Int32 × Int32)
  | 0 => cs 0
  | k + 1 => rwC cs op k ++ cs (k + 1) ++ [(op (k + 1), 0)]
/-- the sort of a row: of conditions, its parts of conditions -/
def srt (kd : Nat) : Bool := Nat.beq kd 8 || Nat.beq kd 9 || Nat.beq kd 13
def srp (kd : Nat) : Bool := Nat.beq kd 8 || Nat.beq kd 9
/-- the term at t means the code c; F: what stays -/
def TR (F : Nat → Prop) (L : Nat) (D : Nat → Nat × Nat) (C : Nat → Nat → Int32) (R : Nat → Nat → Option Nat) (n : Nat) : Nat → Bool → Nat → List (Int32 × Int32) → Prop
  | 0, _, _, _ => False
  | q + 1, b, t, c => F t ∧ (
      (b = false ∧ Rd L D t 16 0 ∧ c = [(0, C t 0)]) ∨
      (b = false ∧ Rd L D t 17 0 ∧ C t 1 = -1 ∧ ∃ v, v < 4 ∧ C t 0 = nI (10 + v) ∧ c = [(1, nI v)]) ∨
      (b = false ∧ Rd L D t 17 0 ∧ ∃ v w, v < 2 ∧ w < 6 ∧ C t 0 = nI (10 + v) ∧ C t 1 = nI w ∧ c = [(2, nI (6 * v + w))]) ∨
      (b = true ∧ Rd L D t 12 0 ∧ ∃ w, w < 10 ∧ C t 0 = nI w ∧ c = [(3, nI w)]) ∨
      (b = true ∧ Rd L D t 11 0 ∧ ∃ u c', rf R t 0 = some u ∧ TR F L D C R n q true u c' ∧ c = c' ++ [(10, 0)]) ∨
      (∃ kd la lb k, isRow kd = true ∧ b = srt kd ∧ Rd L D t kd 0 ∧ rf R t 0 = some la ∧ rf R t 1 = some lb ∧ ∃ (f g : Nat → Nat) (cs : Nat → List (Int32 × Int32)) (sg : Nat → Nat),
        F la ∧ F lb ∧ (∀ e, R la 1 = some e → F e) ∧ (∀ e, R lb 1 = some e → F e) ∧ LsR L D C R n la (k + 1) f ∧ LsR L D C R n lb (k + 1) g ∧ k ≤ 1000 ∧ (srp kd = true ∨ srt kd = false ∨ 1 ≤ k) ∧
        (∀ i, i < k + 1 → TR F L D C R n q (srp kd) (f i) (cs i)) ∧ (∀ i, i < k + 1 → g i = 149 + sg i ∧ sg i < 128) ∧ c = rwC cs (fun i => opR kd (sg i)) k))
section CT
variable {d L n s : Nat} {D : Nat → Nat × Nat} {C M P : Nat → Nat → Int32} {R : Nat → Nat → Option Nat} {m : Mem}
/-- the constants: the boxed small ints -/
def CIc (C : Nat → Nat → Int32) : Prop := ∀ v, v < 128 → C (149 + v) 0 = nI v
theorem kf_box {v : Nat} (h : v < 128) : kf L D (149 + v) = (22, 0) := by
  rw [kf, nblt (by omega)]
  exact K0_i (by omega) (by omega)
theorem mdl_lo {a : Nat} (h : a < 305) : mdl a = false := by rw [mdl, nbl (show a < 305 from h)]; rfl
theorem t30 {v : Nat} (hC : CIc C) (h : v < 128) : Ev d 30 [.ref (149 + v)] (mk L D C M R n s) (Rt (Is (some (.int (nI v))) (mk L D C M R n s))) := by
  have hr : Rd L D (149 + v) 22 0 := ⟨kf_box h, mdl_lo (by omega)⟩
  refine ev_in rfl ?_
  refine go_t 0 rfl ?_
  refine go_gI rfl hr.k hr.m rfl ?_
  rw [hC v h]
  refine go_ret rfl ?_
  exact ⟨rfl, rfl⟩
/-- what a row's join answers -/
def jnS (kd sg : Nat) (v w : Int32) : Int32 := if kd = 8 then v ||| w else if kd = 9 then v &&& w else twS (opR kd sg) v w
theorem tw4 (v w : Int32) : twS 4 v w = v + w := by unfold twS; rw [if_pos rfl]
theorem tw5 (v w : Int32) : twS 5 v w = v - w := by unfold twS; rw [if_neg (by decide), if_pos rfl]
theorem tw6 (v w : Int32) : twS 6 v w = v * w := by unfold twS; rw [if_neg (by decide), if_neg (by decide), if_pos rfl]
theorem tw7 (v w : Int32) : twS 7 v w = bI (v < w) := by unfold twS; rw [if_neg (by decide), if_neg (by decide), if_neg (by decide), if_pos rfl]
theorem tw8 (v w : Int32) : twS 8 v w = bI (v = w) := by unfold twS; rw [if_neg (by decide), if_neg (by decide), if_neg (by decide), if_neg (by decide), if_pos rfl]
theorem tw9 (v w : Int32) : twS 9 v w = bI (w < v) := by unfold twS; rw [if_neg (by decide), if_neg (by decide), if_neg (by decide), if_neg (by decide), if_neg (by decide), if_pos rfl]
theorem op13 {sg : Nat} : opR 13 sg = if sg = 60 then 7 else if sg = 61 then 8 else 9 := by unfold opR; rw [if_neg (by decide), if_neg (by decide), if_neg (by decide), if_neg (by decide)]
theorem op14 {sg : Nat} : opR 14 sg = if sg = 43 then 4 else 5 := by unfold opR; rw [if_pos rfl]
theorem op15 {sg : Nat} : opR 15 sg = 6 := by unfold opR; rw [if_neg (by decide), if_pos rfl]
theorem op8 {sg : Nat} : opR 8 sg = 12 := by unfold opR; rw [if_neg (by decide), if_neg (by decide), if_pos rfl]
theorem op9 {sg : Nat} : opR 9 sg = 11 := by unfold opR; rw [if_neg (by decide), if_neg (by decide), if_neg (by decide), if_pos rfl]
theorem jn8 {sg : Nat} {v w : Int32} : jnS 8 sg v w = v ||| w := by unfold jnS; rw [if_pos rfl]
theorem jn9 {sg : Nat} {v w : Int32} : jnS 9 sg v w = v &&& w := by unfold jnS; rw [if_neg (by decide), if_pos rfl]
theorem jnT {kd sg : Nat} {v w : Int32} (h : ¬ kd = 8) (h2 : ¬ kd = 9) : jnS kd sg v w = twS (opR kd sg) v w := by unfold jnS; rw [if_neg h, if_neg h2]
theorem jn13 {sg : Nat} {v w : Int32} : jnS 13 sg v w = if sg = 60 then bI (v < w) else if sg = 61 then bI (v = w) else bI (w < v) := by
  rw [jnT (by decide) (by decide), op13]
  by_cases h : sg = 60
  · rw [if_pos h, if_pos h, tw7]
  · rw [if_neg h, if_neg h]
    by_cases h2 : sg = 61
    · rw [if_pos h2, if_pos h2, tw8]
    · rw [if_neg h2, if_neg h2, tw9]
theorem jn14 {sg : Nat} {v w : Int32} : jnS 14 sg v w = if sg = 43 then v + w else v - w := by
  rw [jnT (by decide) (by decide), op14]
  by_cases h : sg = 43
  · rw [if_pos h, if_pos h, tw4]
  · rw [if_neg h, if_neg h, tw5]
theorem nI_eqd {a b : Nat} (ha : a < 128) (hb : b < 128) : nI a = nI b ↔ a = b := nI_eq (by omega) (by omega)
theorem row_cases {kd : Nat} (hk : isRow kd = true) : kd = 8 ∨ kd = 9 ∨ kd = 13 ∨ kd = 14 ∨ kd = 15 := by
  unfold isRow at hk
  rw [Bool.or_eq_true, Bool.or_eq_true, Bool.or_eq_true, Bool.or_eq_true] at hk
  rcases hk with (((h | h) | h) | h) | h
  · exact Or.inl (Nat.eq_of_beq_eq_true h)
  · exact Or.inr (Or.inl (Nat.eq_of_beq_eq_true h))
  · exact Or.inr (Or.inr (Or.inl (Nat.eq_of_beq_eq_true h)))
  · exact Or.inr (Or.inr (Or.inr (Or.inl (Nat.eq_of_beq_eq_true h))))
  · exact Or.inr (Or.inr (Or.inr (Or.inr (Nat.eq_of_beq_eq_true h))))
theorem tjoin {t kd sg : Nat} {v w : Int32} (hk : isRow kd = true) (hs : sg < 128) : ∃ z, joinTab kd = some z ∧ (Nat.beq (entL [.ref t, .int v, .int (nI sg), .int w] (mxl z)).length (mxl z)) = true ∧ Ev d z [.ref t, .int v, .int (nI sg), .int w] m (Rt (Is (some (.int (jnS kd sg v w))) m)) := by
  have hk := row_cases hk
  rcases hk with rfl | rfl | rfl | rfl | rfl
  · refine ⟨197, rfl, rfl, ?_⟩
    refine ev_in rfl ?_
    refine go_t 0 rfl ?_
    dsimp only
    refine go_ret rfl ?_
    exact ⟨by rw [jn8], rfl⟩
  · refine ⟨199, rfl, rfl, ?_⟩
    refine ev_in rfl ?_
    refine go_t 0 rfl ?_
    dsimp only
    refine go_ret rfl ?_
    exact ⟨by rw [jn9], rfl⟩
  · refine ⟨206, rfl, rfl, ?_⟩
    have e1 : nI sg = 60 ↔ sg = 60 := nI_eqd hs (by decide)
    have e2 : nI sg = 61 ↔ sg = 61 := nI_eqd hs (by decide)
    refine ev_in rfl ?_
    refine go_t 0 rfl ?_
    refine go_br rfl (fun h3 => ?_) (fun h3 => ?_)
    · skip
      refine go_t 0 rfl ?_
      refine go_br rfl (fun h17 => ?_) (fun h17 => ?_)
      · skip
        refine go_t 0 rfl ?_
        refine go_br rfl (fun h30 => ?_) (fun h30 => ?_)
        · skip
          exact go_t 0 rfl (go_ret rfl ⟨by rw [jn13, if_neg (fun q => h3 (e1.mpr q)), if_neg (fun q => h17 (e2.mpr q)), bI_f (Int32.not_lt.mpr h30)], rfl⟩)
        · skip
          exact go_t 0 rfl (go_ret rfl ⟨by rw [jn13, if_neg (fun q => h3 (e1.mpr q)), if_neg (fun q => h17 (e2.mpr q)), bI_t (Int32.not_le.mp h30)], rfl⟩)
      · skip
        replace h17 := Decidable.not_not.mp h17
        refine go_t 0 rfl ?_
        refine go_br rfl (fun h22 => ?_) (fun h22 => ?_)
        · skip
          exact go_t 0 rfl (go_ret rfl ⟨by rw [jn13, if_neg (fun q => h3 (e1.mpr q)), if_pos (e2.mp h17), bI_f h22], rfl⟩)
        · skip
          replace h22 := Decidable.not_not.mp h22
          refine go_t 33 rfl ?_
          exact go_t 0 rfl (go_ret rfl ⟨by rw [jn13, if_neg (fun q => h3 (e1.mpr q)), if_pos (e2.mp h17), bI_t h22], rfl⟩)
    · skip
      replace h3 := Decidable.not_not.mp h3
      refine go_t 0 rfl ?_
      refine go_br rfl (fun h8 => ?_) (fun h8 => ?_)
      · skip
        exact go_t 0 rfl (go_ret rfl ⟨by rw [jn13, if_pos (e1.mp h3), bI_f (Int32.not_lt.mpr h8)], rfl⟩)
      · skip
        refine go_t 33 rfl ?_
        exact go_t 0 rfl (go_ret rfl ⟨by rw [jn13, if_pos (e1.mp h3), bI_t (Int32.not_le.mp h8)], rfl⟩)
  · refine ⟨208, rfl, rfl, ?_⟩
    have e1 : nI sg = 43 ↔ sg = 43 := nI_eqd hs (by decide)
    refine ev_in rfl ?_
    refine go_t 0 rfl ?_
    refine go_br rfl (fun h3 => ?_) (fun h3 => ?_)
    · skip
      refine go_t 0 rfl ?_
      dsimp only
      refine go_ret rfl ?_
      exact ⟨by rw [jn14, if_neg (fun q => h3 (e1.mpr q))], rfl⟩
    · skip
      replace h3 := Decidable.not_not.mp h3
      refine go_t 0 rfl ?_
      dsimp only
      refine go_ret rfl ?_
      exact ⟨by rw [jn14, if_pos (e1.mp h3)], rfl⟩
  · refine ⟨210, rfl, rfl, ?_⟩
    refine ev_in rfl ?_
    refine go_t 0 rfl ?_
    dsimp only
    refine go_ret rfl ?_
    exact ⟨by rw [jnT (by decide) (by decide), op15, tw6], rfl⟩
theorem bitI_b {S k : Nat} (hS : S < 1024) (hk : k < 10) : bitI (nI S) (nI k) = bI (bitI (nI S) (nI k) = 1) := by
  rw [bitI_n (by omega) (by omega)]
  have : S / 2 ^ k % 2 = 0 ∨ S / 2 ^ k % 2 = 1 := by omega
  rcases this with h | h <;> rw [h] <;> rfl
theorem bI_01 {c : Prop} [Decidable c] : bI c = 0 ∨ bI c = 1 := by
  unfold bI
  split
  · exact Or.inr rfl
  · exact Or.inl rfl
/-- the division that is asked: house h, set S -/
def DvR (P : Nat → Nat → Int32) (L : Nat) (D : Nat → Nat × Nat) (C : Nat → Nat → Int32) (R : Nat → Nat → Option Nat) (dk kn : Int32) (S : Nat) : Prop := ∃ h w b, R 291 0 = some h ∧ C 291 1 = nI S ∧ HoO L D R h w b ∧ HsC P dk kn h w b C ∧ nsub S (inN P dk kn (mN P)) = 0
theorem or01 {v w : Int32} (h1 : v = 0 ∨ v = 1) (h2 : w = 0 ∨ w = 1) : v ||| w = twS 12 v w ∧ (v ||| w = 0 ∨ v ||| w = 1) := by
  rcases h1 with rfl | rfl <;> rcases h2 with rfl | rfl <;> decide
theorem and01 {v w : Int32} (h1 : v = 0 ∨ v = 1) (h2 : w = 0 ∨ w = 1) : v &&& w = twS 11 v w ∧ (v &&& w = 0 ∨ v &&& w = 1) := by
  rcases h1 with rfl | rfl <;> rcases h2 with rfl | rfl <;> decide
theorem jn_8 {sg : Nat} {v w : Int32} (h1 : v = 0 ∨ v = 1) (h2 : w = 0 ∨ w = 1) : jnS 8 sg v w = twS (opR 8 sg) v w ∧ (srt 8 = true → jnS 8 sg v w = 0 ∨ jnS 8 sg v w = 1) := by
  rw [jn8, op8]
  exact ⟨(or01 h1 h2).1, fun _ => (or01 h1 h2).2⟩
theorem jn_9 {sg : Nat} {v w : Int32} (h1 : v = 0 ∨ v = 1) (h2 : w = 0 ∨ w = 1) : jnS 9 sg v w = twS (opR 9 sg) v w ∧ (srt 9 = true → jnS 9 sg v w = 0 ∨ jnS 9 sg v w = 1) := by
  rw [jn9, op9]
  exact ⟨(and01 h1 h2).1, fun _ => (and01 h1 h2).2⟩
theorem jn_01 {kd sg : Nat} {v w : Int32} (hk : isRow kd = true) (h1 : srp kd = true → v = 0 ∨ v = 1) (h2 : srp kd = true → w = 0 ∨ w = 1) : jnS kd sg v w = twS (opR kd sg) v w ∧ (srt kd = true → jnS kd sg v w = 0 ∨ jnS kd sg v w = 1) := by
  rcases row_cases hk with rfl | rfl | rfl | rfl | rfl
  · exact jn_8 (h1 rfl) (h2 rfl)
  · exact jn_9 (h1 rfl) (h2 rfl)
  · refine ⟨jnT (by decide) (by decide), fun _ => ?_⟩
    rw [jn13]
    split
    · exact bI_01
    · split <;> exact bI_01
  · exact ⟨jnT (by decide) (by decide), fun q => by cases q⟩
  · exact ⟨jnT (by decide) (by decide), fun q => by cases q⟩
theorem myN_pop {dk kn : Int32} (hN : mN P ≤ 10) : popS (inN P dk kn (mN P)) = myN P dk kn (mN P) := by
  have g : ∀ k, k ≤ mN P → pcN (inN P dk kn (mN P)) k = myN P dk kn k := by
    intro k
    induction k with
    | zero => intro _; rfl
    | succ k ih =>
      intro hk
      rw [pcN, myN, ih (by omega)]
      by_cases hb : blS P dk kn k = -1
      · rw [if_pos hb, if_neg (fun q => (inN_tb.mp q).2 hb)]
      · rw [if_neg hb, if_pos (inN_tb.mpr ⟨by omega, hb⟩)]
  have up : ∀ k, mN P ≤ k → pcN (inN P dk kn (mN P)) k = pcN (inN P dk kn (mN P)) (mN P) := by
    intro k hk
    induction hk with
    | refl => rfl
    | step hk ih =>
      rw [pcN, if_neg (fun q => absurd (inN_tb.mp q).1 (Nat.not_lt_of_le hk))]
      exact ih
  rw [popS, up 10 hN, g _ (Nat.le_refl _)]
theorem tTR {F : Nat → Prop} {S : Nat} {dk kn : Int32} (hN : mN P ≤ 10) (hD : DvR P L D C R dk kn S) (hB : CIc C) : ∀ q b t c, TR F L D C R n q b t c →
    ∃ z kd v, Rd L D t kd 0 ∧ vtab kd 910 = some z ∧ isTerm kd = true ∧ (Nat.beq (entL [.ref t, .ref 291] (mxl z)).length (mxl z)) = true ∧ (∀ d, Ev (d + 3 * q + 3) z [.ref t, .ref 291] (mk L D C M R n s) (Rt (Is (some (.int v)) (mk L D C M R n s)))) ∧ Vl (lfS P dk kn S) c v ∧ (b = true → v = 0 ∨ v = 1) := by
  obtain ⟨h, w, b, hd1, hd2, hH, hC, hS⟩ := hD
  have hd1' : rf R 291 0 = some h := hd1
  have hlt : S < 1024 := Nat.lt_of_le_of_lt (sub_le hS) (inN_1024 hN)
  have oO : Rd L D h 1 0 := ⟨hH.1.1, cw_m hH.1.2.1⟩
  intro q
  induction q with
  | zero => intro b t c h; exact h.elim
  | succ q ih =>
    intro bb t c hT
    obtain ⟨hF, hT⟩ := hT
    rcases hT with ⟨rfl, hr, rfl⟩ | ⟨rfl, hr, h1, v, hv, h0, rfl⟩ | ⟨rfl, hr, v, x, hv, hx, h0, h1, rfl⟩ | ⟨rfl, hr, x, hx, h0, rfl⟩ | ⟨rfl, hr, u, c', hu, hc', rfl⟩ | ⟨kd, la, lb, k, hrow, rfl, hr, hla, hlb, f, g, cs, sg, _, _, _, _, hfl, hgl, hk1000, hk1, hts, hsg, rfl⟩
    · refine ⟨212, 16, C t 0, hr, rfl, rfl, rfl, fun d => ?_, ?_, fun z => by cases z⟩
      · refine ev_in rfl ?_
        refine go_t 0 rfl ?_
        refine go_gI rfl hr.k hr.m rfl ?_
        refine go_ret rfl ?_
        exact ⟨rfl, rfl⟩
      · have := Vl.leaf (lf := lfS P dk kn S) (o := 0) (v := C t 0) (by decide)
        rwa [show lfS P dk kn S 0 (C t 0) = C t 0 from by rw [lfS, if_pos rfl]] at this
    · refine ⟨214, 17, lfS P dk kn S 1 (nI v), hr, rfl, rfl, rfl, fun d => ?_, Vl.leaf (by decide), fun z => by cases z⟩
      have el : lfS P dk kn S 1 (nI v) = (if nI v = 0 then nI (hdN S (-1) (blS P dk kn) (mN P)) else if nI v = 1 then wgI S (-1) (blS P dk kn) (wtS P dk kn) (mN P) else if nI v = 2 then nI (myN P dk kn (mN P)) else alI P dk kn (mN P)) := by
        unfold lfS
        rw [if_neg (by decide), if_pos rfl]
      rw [el]
      have hv : v = 0 ∨ v = 1 ∨ v = 2 ∨ v = 3 := by omega
      refine ev_in rfl ?_
      rcases hv with rfl | rfl | rfl | rfl
      · skip
        refine go_t 0 rfl ?_
        refine go_gI rfl hr.k hr.m rfl ?_
        rw [h0]
        refine go_nx rfl ?_
        refine go_t 0 rfl ?_
        refine go_gR rfl rfl rfl hd1' ?_
        refine go_t 0 rfl ?_
        refine go_gI rfl rfl rfl rfl ?_
        rw [hd2]
        refine go_t 0 rfl ?_
        refine go_gI rfl hr.k hr.m rfl ?_
        rw [h1]
        refine go_f (cmd_v2 rfl rfl oO.k rfl) rfl (t83 hN hH hC hS) ?_
        refine go_ret rfl ?_
        exact ⟨rfl, rfl⟩
      · skip
        refine go_t 0 rfl ?_
        refine go_gI rfl hr.k hr.m rfl ?_
        rw [h0]
        refine go_nx rfl ?_
        refine go_t 0 rfl ?_
        refine go_gR rfl rfl rfl hd1' ?_
        refine go_t 0 rfl ?_
        refine go_gI rfl rfl rfl rfl ?_
        rw [hd2]
        refine go_t 0 rfl ?_
        refine go_gI rfl hr.k hr.m rfl ?_
        rw [h1]
        refine go_f (cmd_v2 rfl rfl oO.k rfl) rfl (t84 hN hH hC hS) ?_
        refine go_ret rfl ?_
        exact ⟨rfl, rfl⟩
      · skip
        refine go_t 0 rfl ?_
        refine go_gI rfl hr.k hr.m rfl ?_
        rw [h0]
        refine go_nx rfl ?_
        refine go_t 0 rfl ?_
        refine go_gR rfl rfl rfl hd1' ?_
        refine go_gI rfl oO.k oO.m rfl ?_
        rw [hC.1]
        refine go_f rfl rfl (t29 (inN_1024 hN)) ?_
        refine go_ret rfl ?_
        exact ⟨by rw [myN_pop hN]; rfl, rfl⟩
      · skip
        refine go_t 0 rfl ?_
        refine go_gI rfl hr.k hr.m rfl ?_
        rw [h0]
        refine go_nx rfl ?_
        refine go_t 0 rfl ?_
        refine go_gR rfl rfl rfl hd1' ?_
        refine go_gI rfl oO.k oO.m rfl ?_
        rw [hC.2.1]
        refine go_ret rfl ?_
        exact ⟨rfl, rfl⟩
    · refine ⟨214, 17, lfS P dk kn S 2 (nI (6 * v + x)), hr, rfl, rfl, rfl, fun d => ?_, Vl.leaf (by decide), fun z => by cases z⟩
      have el : lfS P dk kn S 2 (nI (6 * v + x)) = (if nI (6 * v + x) < 6 then nI (hdN S (nI (6 * v + x)) (blS P dk kn) (mN P)) else wgI S (nI (6 * v + x) - 6) (blS P dk kn) (wtS P dk kn) (mN P)) := by
        unfold lfS
        rw [if_neg (by decide), if_neg (by decide), if_neg (by decide)]
      rw [el]
      have hv : v = 0 ∨ v = 1 := by omega
      refine ev_in rfl ?_
      rcases hv with rfl | rfl
      · have e6 : nI x < 6 := nI_lt (b := 6) hx (by decide)
        rw [show 6 * 0 + x = x by omega, if_pos e6]
        refine go_t 0 rfl ?_
        refine go_gI rfl hr.k hr.m rfl ?_
        rw [h0]
        refine go_nx rfl ?_
        refine go_t 0 rfl ?_
        refine go_gR rfl rfl rfl hd1' ?_
        refine go_t 0 rfl ?_
        refine go_gI rfl rfl rfl rfl ?_
        rw [hd2]
        refine go_t 0 rfl ?_
        refine go_gI rfl hr.k hr.m rfl ?_
        rw [h1]
        refine go_f (cmd_v2 rfl rfl oO.k rfl) rfl (t83 hN hH hC hS) ?_
        refine go_ret rfl ?_
        exact ⟨rfl, rfl⟩
      · have e6 : ¬ nI (6 * 1 + x) < 6 := nI_nlt (b := 6) (by omega) (by omega)
        have e7 : nI (6 * 1 + x) - nI 6 = nI (6 * 1 + x - 6) := pk_sub (by omega)
        have e8 : nI (6 * 1 + x) - 6 = nI x := by rw [show 6 * 1 + x - 6 = x by omega] at e7; exact e7
        rw [if_neg e6, e8]
        refine go_t 0 rfl ?_
        refine go_gI rfl hr.k hr.m rfl ?_
        rw [h0]
        refine go_nx rfl ?_
        refine go_t 0 rfl ?_
        refine go_gR rfl rfl rfl hd1' ?_
        refine go_t 0 rfl ?_
        refine go_gI rfl rfl rfl rfl ?_
        rw [hd2]
        refine go_t 0 rfl ?_
        refine go_gI rfl hr.k hr.m rfl ?_
        rw [h1]
        refine go_f (cmd_v2 rfl rfl oO.k rfl) rfl (t84 hN hH hC hS) ?_
        refine go_ret rfl ?_
        exact ⟨rfl, rfl⟩
    · refine ⟨204, 12, lfS P dk kn S 3 (nI x), hr, rfl, rfl, rfl, fun d => ?_, Vl.leaf (by decide), fun _ => ?_⟩
      · refine ev_in rfl ?_
        have el : lfS P dk kn S 3 (nI x) = bitI (nI S) (nI x) := by
          rw [bitI_b hlt hx]
          unfold lfS
          rw [if_neg (by decide), if_neg (by decide), if_pos rfl]
        rw [el]
        refine go_t 0 rfl ?_
        refine go_gI rfl rfl rfl rfl ?_
        rw [hd2]
        refine go_t 0 rfl ?_
        refine go_gI rfl hr.k hr.m rfl ?_
        rw [h0]
        refine go_t 0 rfl ?_
        dsimp only
        refine go_ret rfl ?_
        exact ⟨rfl, rfl⟩
      · have el : lfS P dk kn S 3 (nI x) = bI (bitI (nI S) (nI x) = 1) := by
          unfold lfS
          rw [if_neg (by decide), if_neg (by decide), if_pos rfl]
        rw [el]
        exact bI_01
    · obtain ⟨z, kd, v, k1, k2, k2', k3, k4, k5, k6⟩ := ih true u c' hc'
      refine ⟨202, 11, 1 - v, hr, rfl, rfl, rfl, fun d => ?_, k5.not, fun _ => ?_⟩
      · have k4 := k4 (d + 2)
        have k3' : (Nat.ble [Value.int 1].length 4 && Nat.beq (entL [.ref u, .ref 291] (mxl z)).length (mxl z)) = true := by rw [k3]; rfl
        refine ev_in rfl ?_
        refine go_t 0 rfl ?_
        refine go_gR rfl hr.k rfl hu ?_
        refine go_t 0 rfl ?_
        refine go_f (d := d + 3 * (q + 1) + 2) (cmd_v1 rfl rfl k1.k k2) k3' (by rw [show d + 3 * (q + 1) + 2 = d + 2 + 3 * q + 3 by omega]; exact k4) ?_
        exact go_t 0 rfl (go_ret rfl ⟨rfl, rfl⟩)
      · rcases k6 rfl with rfl | rfl
        · exact Or.inr rfl
        · exact Or.inl rfl
    · have hz : vtab kd 910 = some 195 ∧ isTerm kd = true := by
        have hk := row_cases hrow
        rcases hk with rfl | rfl | rfl | rfl | rfl <;> exact ⟨rfl, rfl⟩
      have hg : grp kd = 8 := by
        have hk := row_cases hrow
        rcases hk with rfl | rfl | rfl | rfl | rfl <;> rfl
      have hg1 : ∀ c : Int32, (c == 1) = true → (Nat.beq (grp kd) 8 && (c == 1)) = true := fun c hc => by rw [hg, hc]; rfl
      have hjv : ∀ z, joinTab kd = some z → vtab kd 911 = some z := fun z h => h
      -- each part's value
      have hval : ∀ i, i < k + 1 → ∃ v, Vl (lfS P dk kn S) (cs i) v := fun i hi => by
        obtain ⟨z, kd, v, k1, k2, k2', k3, k4, k5, k6⟩ := ih _ _ _ (hts i hi)
        exact ⟨v, k5⟩
      have loop : ∀ j i v, i + j = k → Vl (lfS P dk kn S) (rwC cs (fun i => opR kd (sg i)) i) v → (srp kd = true → v = 0 ∨ v = 1) → (1 ≤ i → srt kd = true → v = 0 ∨ v = 1) →
          ∃ w, Vl (lfS P dk kn S) (rwC cs (fun i => opR kd (sg i)) k) w ∧ (srp kd = true → w = 0 ∨ w = 1) ∧ (1 ≤ k → srt kd = true → w = 0 ∨ w = 1) ∧ ∀ d, Go (d + 3 * (q + 1) + 3) 195 18 [some (.ref t), some (.ref 291), some (.int v), some (.int (nI (i + 1)))] [] (mk L D C M R n s) (Rt (Is (some (.int w)) (mk L D C M R n s))) := by
        intro j
        induction j with
        | zero =>
          intro i v hij hv h1 h2
          rw [Nat.add_zero] at hij
          subst hij
          refine ⟨v, hv, h1, h2, fun d => ?_⟩
          refine go_t 0 rfl ?_
          refine go_gR rfl hr.k (hg1 _ rfl) hla ?_
          refine go_f (cmd_v0 rfl rfl hfl.1.k rfl) rfl (t3 hfl) ?_
          refine go_t 0 rfl (go_bt rfl (Int32.le_refl _) ?_)
          exact go_t 0 rfl (go_ret rfl ⟨rfl, rfl⟩)
        | succ j ihj =>
          intro i v hij hv h1 h2
          obtain ⟨z, kd', x, k1, k2, k2', k3, k4, k5, k6⟩ := ih _ _ _ (hts (i + 1) (by omega))
          obtain ⟨g1, g2⟩ := hsg (i + 1) (by omega)
          obtain ⟨j1, j2⟩ := jn_01 (sg := sg (i + 1)) hrow h1 k6
          have hw : Vl (lfS P dk kn S) (rwC cs (fun i => opR kd (sg i)) (i + 1)) (jnS kd (sg (i + 1)) v x) := by
            rw [j1]
            exact Vl.two hv k5 (opR_ok _ _).1 (opR_ok _ _).2
          have hsr : srp kd = true → srt kd = true := fun q => by
            simp only [srp, srt, Bool.or_eq_true] at q ⊢
            exact Or.inl q
          obtain ⟨w', w1, w2, w3, w4⟩ := ihj (i + 1) _ (by omega) hw (fun q => j2 (hsr q)) (fun _ q => j2 q)
          refine ⟨w', w1, w2, w3, fun d => ?_⟩
          refine go_t 0 rfl ?_
          refine go_gR rfl hr.k (hg1 _ rfl) hla ?_
          refine go_f (cmd_v0 rfl rfl hfl.1.k rfl) rfl (t3 hfl) ?_
          refine go_t 0 rfl (go_bf rfl (nI_ge (by omega) (by omega)) ?_)
          refine go_t 0 rfl ?_
          refine go_gR rfl hr.k (hg1 _ rfl) hlb ?_
          refine go_t 0 rfl ?_
          refine go_f (cmd_v1 rfl rfl hgl.1.k rfl) rfl (t8 hgl (show i + 1 < k + 1 by omega) (by omega)) ?_
          rw [g1]
          refine go_t 0 rfl ?_
          refine go_cast rfl (kf_box g2) rfl ?_
          refine go_f (cmd_v0 rfl rfl (kf_box g2) rfl) rfl (t30 hB g2) ?_
          refine go_t 0 rfl ?_
          refine go_gR rfl hr.k (hg1 _ rfl) hla ?_
          refine go_t 0 rfl ?_
          refine go_f (cmd_v1 rfl rfl hfl.1.k rfl) rfl (t8 hfl (show i + 1 < k + 1 by omega) (by omega)) ?_
          refine go_cast rfl k1.k k2' ?_
          refine go_t 0 rfl ?_
          refine go_f (d := d + 3 * (q + 1) + 2) (cmd_v1 rfl rfl k1.k k2) (by rw [k3]; rfl) (by rw [show d + 3 * (q + 1) + 2 = d + 2 + 3 * q + 3 by omega]; exact k4 (d + 2)) ?_
          obtain ⟨zj, z1, z2, z3⟩ := tjoin (d := d + 3 * (q + 1) + 2) (t := t) (v := v) (w := x) (m := mk L D C M R n s) hrow g2
          refine go_f (cmd_v3 rfl rfl hr.k (hjv _ z1)) (by rw [z2]; rfl) z3 ?_
          refine go_t 18 rfl ?_
          rw [nI_1]
          exact w4 d
      obtain ⟨z0, kd0, v0, k1, k2, k2', k3, k4, k5, k6⟩ := ih _ _ _ (hts 0 (by omega))
      have hsz : 1 ≤ k ∨ srt kd = true → True := fun _ => trivial
      obtain ⟨w, w1, w2, w3, w4⟩ := loop k 0 v0 (by omega) k5 k6 (fun h => absurd h (by omega))
      refine ⟨195, kd, w, hr, hz.1, hz.2, rfl, fun d => ?_, w1, fun hb => ?_⟩
      · refine ev_in rfl ?_
        refine go_t 0 rfl ?_
        refine go_gR rfl hr.k (hg1 _ rfl) hla ?_
        refine go_t 0 rfl ?_
        refine go_f (cmd_v1 rfl rfl hfl.1.k rfl) rfl (t8 (i := 0) hfl (by omega) (by omega)) ?_
        refine go_cast rfl k1.k k2' ?_
        refine go_t 0 rfl ?_
        refine go_f (d := d + 3 * (q + 1) + 2) (cmd_v1 rfl rfl k1.k k2) (by rw [k3]; rfl) (by rw [show d + 3 * (q + 1) + 2 = d + 2 + 3 * q + 3 by omega]; exact k4 (d + 2)) ?_
        refine go_t 18 rfl ?_
        exact w4 d
      · rcases hk1 with hp | hp | hp
        · exact w2 hp
        · rw [hp] at hb; cases hb
        · exact w3 hp hb
end CT
