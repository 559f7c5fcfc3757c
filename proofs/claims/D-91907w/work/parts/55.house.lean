/-! DIVISIONHALL: lists, the division laid -/
set_option maxRecDepth 100000
/-- a cell of DivisionHall's side that may be written -/
def Ob (L : Nat) (D : Nat → Nat × Nat) (r t len : Nat) : Prop := kf L D r = (t, len) ∧ cw r = true ∧ opn r = true
theorem Ob.k {L : Nat} {D : Nat → Nat × Nat} {r t len : Nat} (h : Ob L D r t len) : kf L D r = (t, len) := h.1
theorem Ob.c {L : Nat} {D : Nat → Nat × Nat} {r t len : Nat} (h : Ob L D r t len) : cw r = true := h.2.1
theorem Ob.m {L : Nat} {D : Nat → Nat × Nat} {r t len : Nat} (h : Ob L D r t len) : mdl r = false := cw_m h.2.1
theorem Ob.o {L : Nat} {D : Nat → Nat × Nat} {r t len : Nat} (h : Ob L D r t len) : opn r = true := h.2.2
theorem Ob.new {L n : Nat} {D : Nat → Nat × Nat} {t len : Nat} (h : 337 ≤ n) : Ob L (fu D n (t, len)) n t len := ⟨by rw [kf_hi h, fu_self], cw_hi h, opn_hi h⟩
theorem kf_up {L n : Nat} {D : Nat → Nat × Nat} {r : Nat} {x : Nat × Nat} (h : r ≠ n) : kf L (fu D n x) r = kf L D r := by
  unfold kf
  rw [fu_ne h]
theorem Ob.up {L n : Nat} {D : Nat → Nat × Nat} {r t len : Nat} {x : Nat × Nat} (h : Ob L D r t len) (hr : r ≠ n) : Ob L (fu D n x) r t len := ⟨by rw [kf_up hr]; exact h.1, h.2⟩
theorem Ob.R {L : Nat} {D : Nat → Nat × Nat} {R : Nat → Nat → Option Nat} {r t len : Nat} (h : Ob L D r t len) : rf R r = R r := rf_op h.2.2
/-- a cell that is read -/
def Rd (L : Nat) (D : Nat → Nat × Nat) (r t len : Nat) : Prop := kf L D r = (t, len) ∧ mdl r = false
theorem Rd.k {L : Nat} {D : Nat → Nat × Nat} {r t len : Nat} (h : Rd L D r t len) : kf L D r = (t, len) := h.1
theorem Rd.m {L : Nat} {D : Nat → Nat × Nat} {r t len : Nat} (h : Rd L D r t len) : mdl r = false := h.2
section CH
variable {d L n s : Nat} {D : Nat → Nat × Nat} {C M P : Nat → Nat → Int32} {R : Nat → Nat → Option Nat} {m : Mem}
/-! small methods -/
theorem t37 (v a b : Int32) : Ev d 37 [.int v, .int a, .int b] m (Rt (Is (some (.int (bI (a ≤ v ∧ v ≤ b)))) m)) := t_isIn37 d v a b m
theorem t38 (v : Int32) : Ev (d + 1) 38 [.int v] m (Rt (Is (some (.int (bI (0 ≤ v ∧ v ≤ 999)))) m)) := by
  refine ev_in rfl ?_
  refine go_t 0 rfl ?_
  refine go_f rfl rfl (t37 _ _ _) ?_
  refine go_rtb rfl retOK_bI ?_
  exact ⟨rfl, rfl⟩
theorem t48 (v : Int32) : Ev (d + 1) 48 [.int v] m (Rt (Is (some (.int (bI (0 ≤ v ∧ v ≤ 3)))) m)) := by
  refine ev_in rfl ?_
  refine go_t 0 rfl ?_
  refine go_f rfl rfl (t37 _ _ _) ?_
  refine go_rtb rfl retOK_bI ?_
  exact ⟨rfl, rfl⟩
theorem t64 (v : Int32) : Ev (d + 1) 64 [.int v] m (Rt (Is (some (.int (bI (0 ≤ v ∧ v ≤ 5)))) m)) := by
  refine ev_in rfl ?_
  refine go_t 0 rfl ?_
  refine go_f rfl rfl (t37 _ _ _) ?_
  refine go_rtb rfl retOK_bI ?_
  exact ⟨rfl, rfl⟩
theorem t74 (v : Int32) : Ev (d + 1) 74 [.int v] m (Rt (Is (some (.int (bI (0 ≤ v ∧ v ≤ 5)))) m)) := by
  refine ev_in rfl ?_
  refine go_t 0 rfl ?_
  refine go_f rfl rfl (t37 _ _ _) ?_
  refine go_rtb rfl retOK_bI ?_
  exact ⟨rfl, rfl⟩
theorem t36 {N : Nat} (hN : C 281 3 = nI N) (h10 : N ≤ 10) (v : Int32) : Ev (d + 1) 36 [.ref 281, .int v] (mk L D C M R n s) (Rt (Is (some (.int (bI (0 ≤ v ∧ v < nI N)))) (mk L D C M R n s))) := by
  have e : bI (0 ≤ v ∧ v ≤ nI N - 1) = bI (0 ≤ v ∧ v < nI N) := by
    have h1 : (nI N).toInt = N := nI_toInt (by omega)
    have h2 : v ≤ nI N - 1 ↔ v < nI N := by
      rw [Int32.le_iff_toInt_le, Int32.lt_iff_toInt_lt, Int32.toInt_sub, h1, show (1 : Int32).toInt = 1 from rfl, Int.bmod_eq_of_le (by omega) (by omega)]
      omega
    simp only [h2]
  refine ev_in rfl ?_
  refine go_t 0 rfl ?_
  refine go_gI rfl rfl rfl rfl ?_
  rw [hN]
  refine go_t 0 rfl ?_
  dsimp only
  refine go_f rfl rfl (t37 _ _ _) ?_
  refine go_rtb rfl retOK_bI ?_
  exact ⟨by rw [e], rfl⟩
/-! lists -/
/-- a list at a: N elements f -/
def LsR (L : Nat) (D : Nat → Nat × Nat) (C : Nat → Nat → Int32) (R : Nat → Nat → Option Nat) (n a N : Nat) (f : Nat → Nat) : Prop :=
  Ob L D a 21 0 ∧ C a 2 = nI N ∧ ∃ e cap, R a 1 = some e ∧ N ≤ cap ∧ (∀ i, i < N → rf R e i = some (f i)) ∧ ((e = 1 ∧ cap = 0) ∨ (Ob L D e 103 cap ∧ 337 ≤ e ∧ e < n ∧ 10 ≤ cap ∧ cap ≤ 100000 ∧ cap ≤ 10 + 2 * N))
theorem t3 {a N : Nat} {f : Nat → Nat} (h : LsR L D C R n a N f) : Ev d 3 [.ref a] (mk L D C M R n s) (Rt (Is (some (.int (nI N))) (mk L D C M R n s))) := by
  obtain ⟨h1, h2, h3⟩ := h
  refine ev_in rfl ?_
  refine go_t 0 rfl ?_
  refine go_gI rfl h1.k h1.m rfl ?_
  rw [h2]
  refine go_ret rfl ?_
  exact ⟨rfl, rfl⟩
theorem t17 {i N : Nat} (h : i < N) (hN : N < 2 ^ 31) : Ev d 17 [.int (nI i), .int (nI N), .null] m (Rt (Is (some (.int (nI i))) m)) := by
  refine ev_in rfl ?_
  refine go_t 0 rfl ?_
  refine go_bf rfl (by exact (nI_pos (by omega))) ?_
  refine go_t 0 rfl ?_
  refine go_bt rfl (by exact (nI_lt h hN)) ?_
  refine go_t 0 rfl ?_
  refine go_ret rfl ?_
  exact ⟨rfl, rfl⟩
theorem t16 {i N : Nat} (h : i < N) (hN : N < 2 ^ 31) : Ev (d + 1) 16 [.int (nI i), .int (nI N)] m (Rt (Is (some (.int (nI i))) m)) := by
  refine ev_in rfl ?_
  refine go_t 0 rfl ?_
  refine go_f rfl rfl (t17 h hN) ?_
  refine go_ret rfl ?_
  exact ⟨rfl, rfl⟩
theorem t8 {a N i : Nat} {f : Nat → Nat} (h : LsR L D C R n a N f) (hi : i < N) (hN : N ≤ 100000) : Ev (d + 2) 8 [.ref a, .int (nI i)] (mk L D C M R n s) (Rt (Is (some (.ref (f i))) (mk L D C M R n s))) := by
  obtain ⟨h1, h2, e, cap, h3, h4, h5, h6⟩ := h
  have h6 := h6.resolve_left (fun q => by omega)
  have hO := h6.1
  have ha : rf R a 1 = some e := by rw [h1.R]; exact h3
  have hv : rf R e i = some (f i) := h5 i hi
  have t9 : Ev (d + 1) 9 [.ref a, .int (nI i)] (mk L D C M R n s) (Rt (Is (some (.ref (f i))) (mk L D C M R n s))) := by
    refine ev_in rfl ?_
    have hcap : i < cap := by omega
    refine go_t 0 rfl ?_
    refine go_gR rfl h1.k rfl ha ?_
    refine go_t 0 rfl ?_
    refine go_aald rfl hO.k rfl rfl hcap h6.2.2.2.2.1 hv ?_
    exact go_ret rfl ⟨rfl, rfl⟩
  refine ev_in rfl ?_
  refine go_t 0 rfl ?_
  refine go_gI rfl h1.k h1.m rfl ?_
  rw [h2]
  refine go_f rfl rfl (t16 hi (by omega)) ?_
  refine go_t 0 rfl ?_
  refine go_f (cmd_v1 rfl rfl h1.k rfl) rfl (t9) ?_
  refine go_ret rfl ?_
  exact ⟨rfl, rfl⟩
/-! shifts -/
def ShE (P : Nat → Nat → Int32) (L : Nat) (D : Nat → Nat × Nat) (C : Nat → Nat → Int32) (n i a : Nat) : Prop :=
  Ob L D a 4 0 ∧ a < n ∧ C a 0 = P 306 i ∧ C a 1 = P 308 i ∧ C a 2 = P 309 i ∧ C a 3 = P 307 i ∧ C a 4 = P 310 i
def ShR (P : Nat → Nat → Int32) (L : Nat) (D : Nat → Nat × Nat) (C : Nat → Nat → Int32) (R : Nat → Nat → Option Nat) (n : Nat) (f : Nat → Nat) : Prop :=
  LsR L D C R n 282 (sN P) f ∧ ∀ i, i < sN P → ShE P L D C n i (f i)
/-- the division as laid at h -/
def HsC (P : Nat → Nat → Int32) (dk kn : Int32) (h w b : Nat) (C : Nat → Nat → Int32) : Prop := C h 2 = nI (inN P dk kn (mN P)) ∧ C h 3 = alI P dk kn (mN P) ∧ ∀ m, m < mN P → C b m = blS P dk kn m ∧ (¬ blS P dk kn m = -1 → C w m = wtS P dk kn m)
/-- after the first k members -/
def hcK (P : Nat → Nat → Int32) (dk kn : Int32) (h w b k : Nat) (C : Nat → Nat → Int32) : Prop := C h 2 = nI (inN P dk kn k) ∧ C h 3 = alI P dk kn k ∧ ∀ m, m < k → C b m = blS P dk kn m ∧ (¬ blS P dk kn m = -1 → C w m = wtS P dk kn m)
def wH (h w b a k : Nat) : Bool := (Nat.beq a h && (Nat.beq k 2 || Nat.beq k 3)) || Nat.beq a w || Nat.beq a b
/-- what is at a house -/
def HoO (L : Nat) (D : Nat → Nat × Nat) (R : Nat → Nat → Option Nat) (h w b : Nat) : Prop := (kf L D h = (1, 0) ∧ cw h = true ∧ kf L D w = (101, 10) ∧ cw w = true ∧ kf L D b = (101, 10) ∧ cw b = true ∧ rf R h 0 = some w ∧ rf R h 1 = some b) ∧ h ≠ w ∧ h ≠ b ∧ w ≠ b ∧ h ≠ 282 ∧ w ≠ 282 ∧ b ≠ 282 ∧ h < 337 ∧ w < 337 ∧ b < 337
theorem ho283 : HoO L D R 283 284 285 := ⟨⟨rfl, rfl, rfl, rfl, rfl, rfl, rfl, rfl⟩, by decide, by decide, by decide, by decide, by decide, by decide, by decide, by decide, by decide⟩
theorem ho286 : HoO L D R 286 287 288 := ⟨⟨rfl, rfl, rfl, rfl, rfl, rfl, rfl, rfl⟩, by decide, by decide, by decide, by decide, by decide, by decide, by decide, by decide, by decide⟩
theorem hcK_no {dk kn v : Int32} {h w b k : Nat} (q : hcK P dk kn h w b k C) (h1 : h ≠ w) (h2 : h ≠ b) (h3 : w ≠ b) (hb : blS P dk kn k = -1) : hcK P dk kn h w b (k + 1) (wr (wr C w k v) b k (-1)) := by
  obtain ⟨q1, q2, q3⟩ := q
  refine ⟨?_, ?_, ?_⟩
  · rw [inN, if_pos hb, wr_ne h2, wr_ne h1]; exact q1
  · rw [alI, if_pos hb, wr_ne h2, wr_ne h1]; exact q2
  · intro m hm
    rw [wr_ne h3]
    by_cases e : m = k
    · subst e
      exact ⟨by rw [wrs, hb], fun z => absurd hb z⟩
    · have := q3 m (by omega)
      exact ⟨by rw [wrk e, wr_ne h3.symm]; exact this.1, fun z => by rw [wrk e]; exact this.2 z⟩
theorem hcK_yes {dk kn : Int32} {h w b k i : Nat} (q : hcK P dk kn h w b k C) (hk : k < 10) (h1 : h ≠ w) (h2 : h ≠ b) (h3 : w ≠ b) (hi : bst P dk kn (nI k) (sN P) = some i) (hb : ¬ P 309 i = -1) :
    hcK P dk kn h w b (k + 1) (wr (wr (wr (wr C w k (P 308 i)) b k (P 309 i)) h 2 (nI (inN P dk kn k) ||| (1 : Int32) <<< (nI k &&& 31))) h 3 (alI P dk kn k + P 308 i)) := by
  obtain ⟨q1, q2, q3⟩ := q
  have hbl : blS P dk kn k = P 309 i := by rw [blS, hi]
  have hb' : ¬ blS P dk kn k = -1 := by rw [hbl]; exact hb
  have hw : wtS P dk kn k = P 308 i := by rw [wtS, if_neg hb', hi]
  refine ⟨?_, ?_, ?_⟩
  · rw [inN, if_neg hb', wrk (by decide), wrs, nI_with hk]
  · rw [alI, if_neg hb', wrs, hw]
  · intro m hm
    rw [wr_ne h2.symm, wr_ne h2.symm, wr_ne h1.symm, wr_ne h1.symm, wr_ne h3]
    by_cases e : m = k
    · subst e
      exact ⟨by rw [wrs, hbl], fun _ => by rw [wrs, hw]⟩
    · have := q3 m (by omega)
      exact ⟨by rw [wrk e, wr_ne h3.symm]; exact this.1, fun z => by rw [wrk e]; exact this.2 z⟩
def oref (f : Nat → Nat) : Option Nat → Value
  | none => .null
  | some i => .ref (f i)
theorem wH_ob {h w b a k : Nat} (h1 : a ≠ h) (h2 : a ≠ w) (h3 : a ≠ b) : wH h w b a k = false := by
  unfold wH
  rw [nbq h1, nbq h2, nbq h3]
  rfl
theorem t81 {h w b : Nat} {f : Nat → Nat} (hV : VP1 P) (hS : ShR P L D C R n f) (hlow : ∀ i, i < sN P → 337 ≤ f i) (hH : HoO L D R h w b) (dk kn : Int32) :
    Ev (d + 3) 81 [.ref h, .ref 282, .int (P 305 1), .int dk, .int kn] (mk L D C M R n s) (Rt (fun v m' => v = none ∧ ∃ C', m' = mk L D C' M R n s ∧ Fm (wH h w b) C C' ∧ HsC P dk kn h w b C')) := by
  obtain ⟨v1, v2, v3, v4⟩ := hV
  obtain ⟨⟨o1, o2, o3, o4, o5, o6, o7, o8⟩, n1, n2, n3, n4, n5, n6, n7, n8, n9⟩ := hH
  have oh : (kf L D h = (1, 0)) := o1
  rw [v1]
  have W1 : wH h w b h 2 = true := by simp [wH]
  have W2 : wH h w b h 3 = true := by simp [wH]
  have W3 : ∀ k, wH h w b w k = true := fun k => by simp [wH]
  have W4 : ∀ k, wH h w b b k = true := fun k => by simp [wH]
  have hLs : ∀ {C'}, Fm (wH h w b) C C' → ShR P L D C' R n f := fun hF => by
    obtain ⟨⟨a1, a2, a3⟩, a4⟩ := hS
    refine ⟨⟨a1, by rw [hF _ _ (wH_ob n4.symm n5.symm n6.symm)]; exact a2, a3⟩, fun i hi => ?_⟩
    obtain ⟨b1, b2, b3, b4, b5, b6, b7⟩ := a4 i hi
    have hl := hlow i hi
    have e : ∀ k, _ = _ := fun k => hF (f i) k (wH_ob (by omega) (by omega) (by omega))
    exact ⟨b1, b2, by rw [e]; exact b3, by rw [e]; exact b4, by rw [e]; exact b5, by rw [e]; exact b6, by rw [e]; exact b7⟩
  refine ev_in rfl ?_
  refine go_t 0 rfl (go_pI rfl o1 o2 rfl rfl ?_)
  refine go_t 0 rfl (go_pI rfl o1 o2 rfl rfl ?_)
  refine go_t 13 rfl ?_
  refine go_for (mN P) (fun k Lc m => ∃ x6 x7 x8 C', Lc = [some (.ref h), some (.ref 282), some (.int (nI (mN P))), some (.int dk), some (.int kn), some (.int (nI k)), x6, x7, x8] ∧ m = mk L D C' M R n s ∧ Fm (wH h w b) C C' ∧ hcK P dk kn h w b k C') ?_ ?_ ?_
  · refine ⟨none, none, none, _, rfl, rfl, (Fm.rf.wr W1).wr W2, ?_, ?_, fun m hm => absurd hm (by omega)⟩
    · rw [wrk (by decide), wrs]; rfl
    · rw [wrs]; rfl
  · rintro k _ _ hk ⟨x6, x7, x8, C1, rfl, rfl, hF, hK⟩ kk
    obtain ⟨hL1, hE1⟩ := hLs hF
    refine go_t 0 rfl ?_
    refine go_bf rfl (by exact (nI_ge hk (by omega))) ?_
    refine go_t 25 rfl ?_
    refine go_for (sN P) (fun i Lc m => ∃ x8, Lc = [some (.ref h), some (.ref 282), some (.int (nI (mN P))), some (.int dk), some (.int kn), some (.int (nI k)), some (oref f (bst P dk kn (nI k) i)), some (.int (nI i)), x8] ∧ m = mk L D C1 M R n s) ⟨x8, rfl, rfl⟩ ?_ ?_
    · rintro i _ _ hi ⟨x8, rfl, rfl⟩ ki
      obtain ⟨hE, he1, e3, e8, e9, e4, e5⟩ := hE1 i hi
      have fin : ∀ o, o = bst P dk kn (nI k) (i + 1) → Go (d + 3) 81 96 [some (.ref h), some (.ref 282), some (.int (nI (mN P))), some (.int dk), some (.int kn), some (.int (nI k)), some (oref f o), some (.int (nI i)), some (.ref (f i))] [] (mk L D C1 M R n s) _ := fun o ho => by
        rcases o with _ | j <;> (refine go_t 25 rfl (ki _ _ ⟨some (.ref (f i)), ?_, rfl⟩); rw [← ho, ← nI_1])
      refine go_t 0 rfl ?_
      refine go_f rfl rfl (t3 hL1) ?_
      refine go_bf rfl (by exact (nI_ge hi (by omega))) ?_
      refine go_t 0 rfl ?_
      refine go_f rfl rfl (t8 hL1 hi (by omega)) ?_
      refine go_cast rfl hE.k rfl ?_
      refine go_t 0 rfl ?_
      refine go_gI rfl hE.k hE.m rfl ?_
      rw [e3]
      refine go_t 0 rfl ?_
      refine go_br rfl (fun h52 => ?_) (fun h52 => ?_)
      · skip
        exact fin _ (by rw [bst, if_neg h52])
      replace h52 := Decidable.not_not.mp h52
      refine go_t 0 rfl ?_
      refine go_gI rfl hE.k hE.m rfl ?_
      rw [e4]
      refine go_t 0 rfl ?_
      refine go_br rfl (fun h61 => ?_) (fun h61 => ?_)
      · skip
        refine fin _ ?_
        rw [bst, if_pos h52]
        by_cases hz : P 310 i ≤ kn
        · rw [if_pos hz, if_neg (Int32.not_le.mpr h61)]
        · rw [if_neg hz]
      refine go_t 0 rfl ?_
      refine go_gI rfl hE.k hE.m rfl ?_
      rw [e5]
      refine go_t 0 rfl ?_
      refine go_br rfl (fun h71 => ?_) (fun h71 => ?_)
      · skip
        exact fin _ (by rw [bst, if_pos h52, if_neg (Int32.not_le.mpr h71)])
      have h61 := Int32.not_lt.mp h61
      have h71 := Int32.not_lt.mp h71
      rcases hbs : bst P dk kn (nI k) i with _ | j
      · skip
        refine go_t 0 rfl ?_
        refine go_nul1 rfl ?_
        refine go_t 96 rfl ?_
        exact fin (some i) (by rw [bst, if_pos h52, if_pos h71, if_pos h61, hbs])
      · have hj := bst_lt hbs
        obtain ⟨hEj, _, _, _, _, f4, _⟩ := hE1 j (by omega)
        refine go_t 0 rfl ?_
        refine go_ifnul rfl hEj.k rfl ?_
        refine go_t 0 rfl ?_
        refine go_gI rfl hE.k hE.m rfl ?_
        rw [e4]
        refine go_t 0 rfl ?_
        refine go_gI rfl hEj.k hEj.m rfl ?_
        rw [f4]
        refine go_br rfl (fun h89 => ?_) (fun h89 => ?_)
        · skip
          exact fin (some j) (by rw [bst, if_pos h52, if_pos h71, if_pos h61, hbs]; dsimp only; rw [if_neg (Int32.not_le.mpr h89)])
        · skip
          refine go_t 96 rfl ?_
          exact fin (some i) (by rw [bst, if_pos h52, if_pos h71, if_pos h61, hbs]; dsimp only; rw [if_pos (Int32.not_lt.mp h89)])
    · rintro _ _ ⟨x8, rfl, rfl⟩
      refine go_t 0 rfl ?_
      refine go_f rfl rfl (t3 hL1) ?_
      refine go_bt rfl (by exact (Int32.le_refl _)) ?_
      have nxt : ∀ x6 x7 x8 C2, Fm (wH h w b) C C2 → hcK P dk kn h w b (k + 1) C2 → Go (d + 3) 81 187 [some (.ref h), some (.ref 282), some (.int (nI (mN P))), some (.int dk), some (.int kn), some (.int (nI k)), x6, x7, x8] [] (mk L D C2 M R n s) _ := fun x6 x7 x8 C2 h1 h2 => by
        refine go_t 13 rfl (kk _ _ ⟨x6, x7, x8, C2, ?_, rfl, h1, h2⟩)
        rw [← nI_1]
      obtain ⟨k1, k2, k3⟩ := hK
      have hK : hcK P dk kn h w b k C1 := ⟨k1, k2, k3⟩
      have ohk : Ob L D h 1 0 ∨ True := Or.inr trivial
      rcases hbs : bst P dk kn (nI k) (sN P) with _ | i
      · have hb : blS P dk kn k = -1 := by rw [blS, hbs]
        refine go_t 0 rfl (go_gR rfl o1 rfl o7 ?_)
        refine go_t 0 rfl (go_nul2 rfl ?_)
        refine go_t 0 rfl (go_iastC rfl o3 o4 rfl (by omega) (by decide) ?_)
        refine go_t 0 rfl (go_gR rfl o1 rfl o8 ?_)
        refine go_t 0 rfl (go_nul2 rfl ?_)
        refine go_t 0 rfl (go_iastC rfl o5 o6 rfl (by omega) (by decide) ?_)
        refine go_t 0 rfl (go_gR rfl o1 rfl o8 ?_)
        refine go_t 0 rfl (go_aldC rfl o5 (cw_m o6) rfl rfl (by omega) (by decide) ?_)
        rw [wrs]
        refine go_t 0 rfl (go_nx rfl ?_)
        refine go_t 187 rfl ?_
        exact nxt _ _ _ _ ((hF.wr (W3 _)).wr (W4 _)) (hcK_no hK n1 n2 n3 hb)
      · have hi := bst_lt hbs
        obtain ⟨hE, he1, e3, e8, e9, e4, e5⟩ := hE1 i hi
        have hbl : blS P dk kn k = P 309 i := by rw [blS, hbs]
        refine go_t 0 rfl (go_gR rfl o1 rfl o7 ?_)
        refine go_t 0 rfl (go_ifnon rfl hE.k rfl ?_)
        refine go_t 0 rfl (go_gI rfl hE.k hE.m rfl ?_)
        rw [e8]
        refine go_iastC rfl o3 o4 rfl (by omega) (by decide) ?_
        refine go_t 0 rfl (go_gR rfl o1 rfl o8 ?_)
        refine go_t 0 rfl (go_ifnon rfl hE.k rfl ?_)
        refine go_t 0 rfl (go_gI rfl hE.k hE.m rfl ?_)
        have hli := hlow i hi
        rw [wr_ne (show f i ≠ w by omega), e9]
        refine go_iastC rfl o5 o6 rfl (by omega) (by decide) ?_
        refine go_t 0 rfl (go_gR rfl o1 rfl o8 ?_)
        refine go_t 0 rfl (go_aldC rfl o5 (cw_m o6) rfl rfl (by omega) (by decide) ?_)
        rw [wrs]
        refine go_t 0 rfl (go_br rfl (fun hz => ?_) (fun hz => ?_))
        · refine go_t 0 rfl (go_gI rfl o1 (cw_m o2) rfl ?_)
          rw [wr_ne n2, wr_ne n1, k1]
          refine go_t 0 rfl (go_pI rfl o1 o2 rfl rfl ?_)
          refine go_t 0 rfl (go_gI rfl o1 (cw_m o2) rfl ?_)
          rw [wrk (by decide), wr_ne n2, wr_ne n1, k2]
          refine go_t 0 rfl (go_gR rfl o1 rfl o7 ?_)
          refine go_t 0 rfl (go_aldC rfl o3 (cw_m o4) rfl rfl (by omega) (by decide) ?_)
          rw [wr_ne n1.symm, wr_ne n3, wrs]
          refine go_t 0 rfl (go_pI rfl o1 o2 rfl rfl ?_)
          exact nxt _ _ _ _ ((((hF.wr (W3 _)).wr (W4 _)).wr W1).wr W2) (hcK_yes hK (by omega) n1 n2 n3 hbs hz)
        · have hz := Decidable.not_not.mp hz
          refine go_t 187 rfl ?_
          refine nxt _ _ _ _ ((hF.wr (W3 _)).wr (W4 _)) ?_
          rw [hz]
          exact hcK_no hK n1 n2 n3 (hbl.trans hz)
  · rintro _ _ ⟨x6, x7, x8, C1, rfl, rfl, hF, hK⟩
    refine go_t 0 rfl ?_
    refine go_bt rfl (by exact (Int32.le_refl _)) ?_
    refine go_ret rfl ?_
    exact ⟨rfl, C1, rfl, hF, hK⟩
/-! the division that the view has -/
theorem wr_id {C : Nat → Nat → Int32} {a k : Nat} {v : Int32} (h : C a k = v) : wr C a k v = C := by
  subst h
  funext b j
  by_cases e : b = a
  · subst e
    by_cases e2 : j = k
    · subst e2; exact wrs ..
    · exact wrk e2
  · rw [wr_ne e]
theorem wR_id {R : Nat → Nat → Option Nat} {a k : Nat} {v : Option Nat} (h : R a k = v) : wr R a k v = R := by
  subst h
  funext b j
  by_cases e : b = a
  · subst e
    by_cases e2 : j = k
    · subst e2; exact wrs ..
    · exact wrk e2
  · rw [wr_ne e]
/-- who is asked: members, view, and whether it is laid -/
def CIv (P C : Nat → Nat → Int32) : Prop := C 281 3 = P 305 1 ∧ C 281 5 = P 305 8 ∧ C 281 6 = P 305 9
def Laid (P C : Nat → Nat → Int32) : Prop := C 281 7 = 1 ∧ HsC P (P 305 8) (P 305 9) 283 284 285 C
def CIl (P C : Nat → Nat → Int32) : Prop := C 281 7 = 0 ∨ Laid P C
def wV (a k : Nat) : Bool := wH 283 284 285 a k || (Nat.beq a 281 && Nat.beq k 7)
theorem t42 {f : Nat → Nat} (hV : VP1 P) (hS : ShR P L D C R n f) (hlow : ∀ i, i < sN P → 337 ≤ f i) (hv : CIv P C) (hl : CIl P C) :
    Ev (d + 4) 42 [.ref 281] (mk L D C M R n s) (Rt (fun v m' => v = some (.ref 283) ∧ ∃ C', m' = mk L D C' M R n s ∧ Fm wV C C' ∧ Laid P C')) := by
  obtain ⟨e1, e2, e3⟩ := hv
  refine ev_in rfl ?_
  rcases hl with h0 | hl
  · skip
    refine go_t 0 rfl ?_
    refine go_gI rfl rfl rfl rfl ?_
    rw [h0]
    refine go_nx rfl ?_
    refine go_t 0 rfl ?_
    refine go_gR rfl rfl rfl rfl ?_
    refine go_t 0 rfl ?_
    refine go_gR rfl rfl rfl rfl ?_
    refine go_t 0 rfl ?_
    refine go_gI rfl rfl rfl rfl ?_
    rw [e1]
    refine go_t 0 rfl ?_
    refine go_gI rfl rfl rfl rfl ?_
    rw [e2]
    refine go_t 0 rfl ?_
    refine go_gI rfl rfl rfl rfl ?_
    rw [e3]
    refine go_c rfl rfl (t81 hV hS hlow ho283 _ _) (fun v27 m27 hq27 => ?_)
    obtain ⟨rfl, C1, rfl, hF, hH⟩ := hq27
    refine go_t 0 rfl ?_
    refine go_pI rfl rfl rfl rfl rfl ?_
    refine go_t 0 rfl ?_
    refine go_gR rfl rfl rfl rfl ?_
    refine go_ret rfl ?_
    refine ⟨rfl, _, rfl, (hF.up fun a k q => ?_).wr rfl, wrs .., ?_⟩
    · exact (Bool.or_eq_false_iff.mp q).1
    · unfold HsC at hH ⊢
      rw [wr_ne (by decide), wr_ne (by decide), wr_ne (by decide)]
      exact hH
  · have h7 := hl.1
    refine go_t 0 rfl ?_
    refine go_gI rfl rfl rfl rfl ?_
    rw [h7]
    refine go_nx rfl ?_
    refine go_t 0 rfl ?_
    refine go_pI rfl rfl rfl rfl rfl ?_
    rw [wr_id h7]
    refine go_t 0 rfl ?_
    refine go_gR rfl rfl rfl rfl ?_
    refine go_ret rfl ?_
    exact ⟨rfl, C, rfl, Fm.rf, hl⟩
theorem t42' (hl : Laid P C) : Ev d 42 [.ref 281] (mk L D C M R n s) (Rt (Is (some (.ref 283)) (mk L D C M R n s))) := by
  have h7 := hl.1
  refine ev_in rfl ?_
  refine go_t 0 rfl ?_
  refine go_gI rfl rfl rfl rfl ?_
  rw [h7]
  refine go_nx rfl ?_
  refine go_t 0 rfl ?_
  refine go_pI rfl rfl rfl rfl rfl ?_
  rw [wr_id h7]
  refine go_t 0 rfl ?_
  refine go_gR rfl rfl rfl rfl ?_
  refine go_ret rfl ?_
  exact ⟨rfl, rfl⟩
/-- bits of what is in, for isHere, House.of .. -/
theorem bit_n {S k : Nat} (hS : S < 1024) (hk : k < 32) : nI S >>> (nI k &&& 31) &&& 1 = 1 ↔ S.testBit k = true := bitI_1 (by omega) hk
theorem tb_hi {S k : Nat} (hS : S < 1024) (hk : 10 ≤ k) : S.testBit k = false := Nat.testBit_lt_two_pow (Nat.lt_of_lt_of_le hS (show 2 ^ 10 ≤ 2 ^ k from Nat.pow_le_pow_right (by decide) hk))
theorem t41' (hV : VP1 P) (hl : Laid P C) (v : Int32) : Ev (d + 1) 41 [.ref 281, .int v] (mk L D C M R n s) (Rt (Is (some (.int (bI (0 ≤ v ∧ v ≤ 9 ∧ (iN P).testBit v.toNatClampNeg = true)))) (mk L D C M R n s))) := by
  have hX := iN_lt hV.2.1
  have h2 := hl.2.1
  refine ev_in rfl ?_
  refine go_t 0 rfl ?_
  refine go_f rfl rfl (t37 _ _ _) ?_
  refine go_br rfl (fun h7 => ?_) (fun h7 => ?_)
  · skip
    replace h7 := bI_0.mp h7
    exact go_t 0 rfl (go_ret rfl ⟨by rw [bI_f (fun q => by first | exact h7 ⟨q.1, q.2.1⟩ | (obtain ⟨j, hj, rfl⟩ := nI_of2 (M := 9) (n := 9) rfl (Int32.not_lt.mpr q.1) q.2.1; rw [nI_clamp (by omega)] at q; exact h22 ((bit_n hX (by omega)).mpr q.2.2)))], rfl⟩)
  · skip
    replace h7 := bI_n0.mp h7
    refine go_t 0 rfl ?_
    refine go_f rfl rfl (t42' hl) ?_
    refine go_gI rfl rfl rfl rfl ?_
    rw [h2]
    refine go_t 0 rfl ?_
    dsimp only
    refine go_br rfl (fun h22 => ?_) (fun h22 => ?_)
    · skip
      exact go_t 0 rfl (go_ret rfl ⟨by rw [bI_f (fun q => by first | exact h7 ⟨q.1, q.2.1⟩ | (obtain ⟨j, hj, rfl⟩ := nI_of2 (M := 9) (n := 9) rfl (Int32.not_lt.mpr q.1) q.2.1; rw [nI_clamp (by omega)] at q; exact h22 ((bit_n hX (by omega)).mpr q.2.2)))], rfl⟩)
    · skip
      replace h22 := Decidable.not_not.mp h22
      refine go_t 0 rfl ?_
      refine go_ret rfl ?_
      exact ⟨by rw [bI_t (by obtain ⟨j, hj, rfl⟩ := nI_of2 (M := 9) (n := 9) rfl (Int32.not_lt.mpr h7.1) h7.2; rw [nI_clamp (by omega)]; exact ⟨h7.1, h7.2, (bit_n hX (by omega)).mp h22⟩)], rfl⟩
/-- heads, weights of a set of those in: beyond the members there is nobody -/
theorem hdN_up {S N : Nat} {b : Int32} {bl : Nat → Int32} (h : ∀ j, S.testBit j = true → j < N) : ∀ k, N ≤ k → hdN S b bl k = hdN S b bl N := by
  intro k hk
  induction hk with
  | refl => rfl
  | step hk ih =>
    rw [hdN, if_neg (fun q => absurd (h _ q.1) (Nat.not_lt_of_le hk))]
    exact ih
theorem wgI_up {S N : Nat} {b : Int32} {bl wt : Nat → Int32} (h : ∀ j, S.testBit j = true → j < N) : ∀ k, N ≤ k → wgI S b bl wt k = wgI S b bl wt N := by
  intro k hk
  induction hk with
  | refl => rfl
  | step hk ih =>
    rw [wgI, if_neg (fun q => absurd (h _ q.1) (Nat.not_lt_of_le hk))]
    exact ih
/-- a division at h, on a day as known -/
theorem t83 {h w b S : Nat} {dk kn v : Int32} (hN : mN P ≤ 10) (hH : HoO L D R h w b) (hC : HsC P dk kn h w b C) (hS : nsub S (inN P dk kn (mN P)) = 0) : Ev d 83 [.ref h, .int (nI S), .int v] (mk L D C M R n s) (Rt (Is (some (.int (nI (hdN S v (blS P dk kn) (mN P))))) (mk L D C M R n s))) := by
  obtain ⟨⟨o1, o2, o3, o4, o5, o6, o7, o8⟩, _⟩ := hH
  have oO : Rd L D h 1 0 := ⟨o1, cw_m o2⟩
  have oW : Rd L D w 101 10 := ⟨o3, cw_m o4⟩
  have oB : Rd L D b 101 10 := ⟨o5, cw_m o6⟩
  obtain ⟨c1, c2, c3⟩ := hC
  have hlt : S < 1024 := Nat.lt_of_le_of_lt (sub_le hS) (inN_1024 hN)
  have hb : ∀ j, S.testBit j = true → j < mN P := fun j hj => (inN_tb.mp (nsub_0.mp hS j hj)).1
  refine ev_in rfl ?_
  refine go_t 5 rfl ?_
  refine go_for 10 (fun k Lc m => Lc = [some (.ref h), some (.int (nI S)), some (.int v), some (.int (nI (hdN S v (blS P dk kn) k))), some (.int (nI k))] ∧ m = mk L D C M R n s) ⟨rfl, rfl⟩ ?_ ?_
  · rintro k _ _ hk ⟨rfl, rfl⟩ kk
    have fin : ∀ q, q = hdN S v (blS P dk kn) (k + 1) → Go d 83 46 [some (.ref h), some (.int (nI S)), some (.int v), some (.int (nI q)), some (.int (nI k))] [] (mk L D C M R n s) _ := fun q hq => by
      subst hq
      refine go_t 5 rfl (kk _ _ ⟨?_, rfl⟩)
      rw [← nI_1]
    have no : hdN S v (blS P dk kn) k = hdN S v (blS P dk kn) (k + 1) → Go d 83 43 [some (.ref h), some (.int (nI S)), some (.int v), some (.int (nI (hdN S v (blS P dk kn) k))), some (.int (nI k))] [.int (nI (hdN S v (blS P dk kn) k))] (mk L D C M R n s) (Rt (Is (some (.int (nI (hdN S v (blS P dk kn) (mN P))))) (mk L D C M R n s))) := fun hq => by
      refine go_t 46 rfl ?_
      dsimp only
      rw [show nI (hdN S v (blS P dk kn) k) + 0 = nI (hdN S v (blS P dk kn) k) from Int32.add_zero _]
      exact fin _ hq
    have yes : hdN S v (blS P dk kn) k + 1 = hdN S v (blS P dk kn) (k + 1) → Go d 83 39 [some (.ref h), some (.int (nI S)), some (.int v), some (.int (nI (hdN S v (blS P dk kn) k))), some (.int (nI k))] [.int (nI (hdN S v (blS P dk kn) k))] (mk L D C M R n s) (Rt (Is (some (.int (nI (hdN S v (blS P dk kn) (mN P))))) (mk L D C M R n s))) := fun hq => by
      refine go_t 46 rfl ?_
      dsimp only
      rw [nI_1]
      exact fin _ hq
    refine go_t 0 rfl ?_
    refine go_bf rfl (by exact (nI_ge hk (by decide))) ?_
    refine go_t 0 rfl ?_
    dsimp only
    refine go_br rfl (fun h20 => ?_) (fun h20 => ?_)
    · skip
      exact no (by rw [hdN, if_neg (fun q => h20 ((bit_n hlt (by omega)).mpr q.1))])
    · skip
      replace h20 := Decidable.not_not.mp h20
      refine go_t 0 rfl ?_
      refine go_br rfl (fun h25 => ?_) (fun h25 => ?_)
      · skip
        exact yes (by rw [hdN, if_pos ⟨(bit_n hlt (by omega)).mp h20, Or.inl h25⟩])
      · skip
        refine go_t 0 rfl ?_
        refine go_gR rfl oO.k rfl o8 ?_
        refine go_t 0 rfl ?_
        refine go_aldC rfl oB.k oB.m rfl rfl (by omega) (by decide) ?_
        rw [(c3 k (hb k ((bit_n hlt (by omega)).mp h20))).1]
        refine go_t 0 rfl ?_
        refine go_br rfl (fun h36 => ?_) (fun h36 => ?_)
        · skip
          exact no (by rw [hdN, if_neg (fun q => q.2.elim h25 h36)])
        · skip
          replace h36 := Decidable.not_not.mp h36
          exact yes (by rw [hdN, if_pos ⟨(bit_n hlt (by omega)).mp h20, Or.inr h36⟩])
  · rintro _ _ ⟨rfl, rfl⟩
    refine go_t 0 rfl ?_
    refine go_nx rfl ?_
    refine go_t 0 rfl ?_
    refine go_ret rfl ?_
    exact ⟨by rw [hdN_up hb 10 hN], rfl⟩
theorem t84 {h w b S : Nat} {dk kn v : Int32} (hN : mN P ≤ 10) (hH : HoO L D R h w b) (hC : HsC P dk kn h w b C) (hS : nsub S (inN P dk kn (mN P)) = 0) : Ev d 84 [.ref h, .int (nI S), .int v] (mk L D C M R n s) (Rt (Is (some (.int (wgI S v (blS P dk kn) (wtS P dk kn) (mN P)))) (mk L D C M R n s))) := by
  obtain ⟨⟨o1, o2, o3, o4, o5, o6, o7, o8⟩, _⟩ := hH
  have oO : Rd L D h 1 0 := ⟨o1, cw_m o2⟩
  have oW : Rd L D w 101 10 := ⟨o3, cw_m o4⟩
  have oB : Rd L D b 101 10 := ⟨o5, cw_m o6⟩
  obtain ⟨c1, c2, c3⟩ := hC
  have hlt : S < 1024 := Nat.lt_of_le_of_lt (sub_le hS) (inN_1024 hN)
  have hb : ∀ j, S.testBit j = true → j < mN P := fun j hj => (inN_tb.mp (nsub_0.mp hS j hj)).1
  refine ev_in rfl ?_
  refine go_t 5 rfl ?_
  refine go_for 10 (fun k Lc m => Lc = [some (.ref h), some (.int (nI S)), some (.int v), some (.int (wgI S v (blS P dk kn) (wtS P dk kn) k)), some (.int (nI k))] ∧ m = mk L D C M R n s) ⟨rfl, rfl⟩ ?_ ?_
  · rintro k _ _ hk ⟨rfl, rfl⟩ kk
    have fin : ∀ q, q = wgI S v (blS P dk kn) (wtS P dk kn) (k + 1) → Go d 84 52 [some (.ref h), some (.int (nI S)), some (.int v), some (.int q), some (.int (nI k))] [] (mk L D C M R n s) _ := fun q hq => by
      subst hq
      refine go_t 5 rfl (kk _ _ ⟨?_, rfl⟩)
      rw [← nI_1]
    have no : wgI S v (blS P dk kn) (wtS P dk kn) k = wgI S v (blS P dk kn) (wtS P dk kn) (k + 1) → Go d 84 49 [some (.ref h), some (.int (nI S)), some (.int v), some (.int (wgI S v (blS P dk kn) (wtS P dk kn) k)), some (.int (nI k))] [.int (wgI S v (blS P dk kn) (wtS P dk kn) k)] (mk L D C M R n s) (Rt (Is (some (.int (wgI S v (blS P dk kn) (wtS P dk kn) (mN P)))) (mk L D C M R n s))) := fun hq => by
      refine go_t 52 rfl ?_
      dsimp only
      rw [show wgI S v (blS P dk kn) (wtS P dk kn) k + 0 = wgI S v (blS P dk kn) (wtS P dk kn) k from Int32.add_zero _]
      exact fin _ hq
    have yes : S.testBit k = true → wgI S v (blS P dk kn) (wtS P dk kn) k + wtS P dk kn k = wgI S v (blS P dk kn) (wtS P dk kn) (k + 1) → Go d 84 39 [some (.ref h), some (.int (nI S)), some (.int v), some (.int (wgI S v (blS P dk kn) (wtS P dk kn) k)), some (.int (nI k))] [.int (wgI S v (blS P dk kn) (wtS P dk kn) k)] (mk L D C M R n s) (Rt (Is (some (.int (wgI S v (blS P dk kn) (wtS P dk kn) (mN P)))) (mk L D C M R n s))) := fun hk1 hq => by
      refine go_t 0 rfl (go_gR rfl o1 rfl o7 ?_)
      refine go_t 0 rfl (go_aldC rfl oW.k oW.m rfl rfl (by omega) (by decide) ?_)
      rw [(c3 k (hb k hk1)).2 (inN_tb.mp (nsub_0.mp hS k hk1)).2]
      refine go_t 52 rfl ?_
      exact fin _ hq
    refine go_t 0 rfl ?_
    refine go_bf rfl (by exact (nI_ge hk (by decide))) ?_
    refine go_t 0 rfl ?_
    dsimp only
    refine go_br rfl (fun h20 => ?_) (fun h20 => ?_)
    · skip
      exact no (by rw [wgI, if_neg (fun q => h20 ((bit_n hlt (by omega)).mpr q.1))])
    · skip
      replace h20 := Decidable.not_not.mp h20
      refine go_t 0 rfl ?_
      refine go_br rfl (fun h25 => ?_) (fun h25 => ?_)
      · skip
        exact yes ((bit_n hlt (by omega)).mp h20) (by rw [wgI, if_pos ⟨(bit_n hlt (by omega)).mp h20, Or.inl h25⟩])
      · skip
        refine go_t 0 rfl ?_
        refine go_gR rfl oO.k rfl o8 ?_
        refine go_t 0 rfl ?_
        refine go_aldC rfl oB.k oB.m rfl rfl (by omega) (by decide) ?_
        rw [(c3 k (hb k ((bit_n hlt (by omega)).mp h20))).1]
        refine go_t 0 rfl ?_
        refine go_br rfl (fun h36 => ?_) (fun h36 => ?_)
        · skip
          exact no (by rw [wgI, if_neg (fun q => q.2.elim h25 h36)])
        · skip
          replace h36 := Decidable.not_not.mp h36
          exact yes ((bit_n hlt (by omega)).mp h20) (by rw [wgI, if_pos ⟨(bit_n hlt (by omega)).mp h20, Or.inr h36⟩])
  · rintro _ _ ⟨rfl, rfl⟩
    refine go_t 0 rfl ?_
    refine go_nx rfl ?_
    refine go_t 0 rfl ?_
    refine go_ret rfl ?_
    exact ⟨by rw [wgI_up hb 10 hN], rfl⟩
/-- members of a set of blocs; the blocs of those in -/
def ofN (X B : Nat) (bl : Nat → Int32) : Nat → Nat
  | 0 => 0
  | k + 1 => if X.testBit k = true ∧ bitI (nI B) (bl k) = 1 then ofN X B bl k ||| 2 ^ k else ofN X B bl k
def bcN (X : Nat) (bl : Nat → Int32) : Nat → Nat
  | 0 => 0
  | k + 1 => if X.testBit k = true then bcN X bl k ||| 2 ^ (bl k).toNatClampNeg else bcN X bl k
theorem ofN_up {X B N : Nat} {bl : Nat → Int32} (h : ∀ j, X.testBit j = true → j < N) : ∀ k, N ≤ k → ofN X B bl k = ofN X B bl N := by
  intro k hk
  induction hk with
  | refl => rfl
  | step hk ih =>
    rw [ofN, if_neg (fun q => absurd (h _ q.1) (Nat.not_lt_of_le hk))]
    exact ih
theorem bcN_up {X N : Nat} {bl : Nat → Int32} (h : ∀ j, X.testBit j = true → j < N) : ∀ k, N ≤ k → bcN X bl k = bcN X bl N := by
  intro k hk
  induction hk with
  | refl => rfl
  | step hk ih =>
    rw [bcN, if_neg (fun q => absurd (h _ q) (Nat.not_lt_of_le hk))]
    exact ih
theorem t85 {h w b B : Nat} {dk kn : Int32} (hN : mN P ≤ 10) (hH : HoO L D R h w b) (hC : HsC P dk kn h w b C) : Ev d 85 [.ref h, .int (nI B)] (mk L D C M R n s) (Rt (Is (some (.int (nI (ofN (inN P dk kn (mN P)) B (blS P dk kn) (mN P))))) (mk L D C M R n s))) := by
  obtain ⟨⟨o1, o2, o3, o4, o5, o6, o7, o8⟩, _⟩ := hH
  have oO : Rd L D h 1 0 := ⟨o1, cw_m o2⟩
  have oB : Rd L D b 101 10 := ⟨o5, cw_m o6⟩
  obtain ⟨c1, c2, c3⟩ := hC
  have hX := inN_1024 (dk := dk) (kn := kn) (P := P) hN
  have hb : ∀ j, (inN P dk kn (mN P)).testBit j = true → j < mN P := fun j hj => (inN_tb.mp hj).1
  refine ev_in rfl ?_
  refine go_t 4 rfl ?_
  refine go_for 10 (fun k Lc m => Lc = [some (.ref h), some (.int (nI B)), some (.int (nI (ofN (inN P dk kn (mN P)) B (blS P dk kn) k))), some (.int (nI k))] ∧ m = mk L D C M R n s) ⟨rfl, rfl⟩ ?_ ?_
  · rintro k _ _ hk ⟨rfl, rfl⟩ kk
    have fin : ∀ q, q = ofN (inN P dk kn (mN P)) B (blS P dk kn) (k + 1) → Go d 85 46 [some (.ref h), some (.int (nI B)), some (.int (nI q)), some (.int (nI k))] [] (mk L D C M R n s) _ := fun q hq => by
      subst hq
      refine go_t 4 rfl (kk _ _ ⟨?_, rfl⟩)
      rw [← nI_1]
    refine go_t 0 rfl ?_
    refine go_bf rfl (by exact (nI_ge hk (by decide))) ?_
    refine go_t 0 rfl ?_
    refine go_gI rfl oO.k oO.m rfl ?_
    rw [c1]
    refine go_t 0 rfl ?_
    dsimp only
    refine go_br rfl (fun h20 => ?_) (fun h20 => ?_)
    · skip
      refine go_t 46 rfl ?_
      dsimp only
      rw [show nI (ofN (inN P dk kn (mN P)) B (blS P dk kn) k) ||| 0 = nI (ofN (inN P dk kn (mN P)) B (blS P dk kn) k) from Int32.or_zero]; exact fin _ (by rw [ofN, if_neg (fun q => h20 ((bit_n hX (by omega)).mpr q.1))])
    · skip
      replace h20 := Decidable.not_not.mp h20
      refine go_t 0 rfl ?_
      refine go_gR rfl oO.k rfl o8 ?_
      refine go_t 0 rfl ?_
      refine go_aldC rfl oB.k oB.m rfl rfl (by omega) (by decide) ?_
      rw [(c3 k (hb k ((bit_n hX (by omega)).mp h20))).1]
      refine go_t 0 rfl ?_
      dsimp only
      refine go_br rfl (fun h34 => ?_) (fun h34 => ?_)
      · skip
        refine go_t 46 rfl ?_
        dsimp only
        rw [show nI (ofN (inN P dk kn (mN P)) B (blS P dk kn) k) ||| 0 = nI (ofN (inN P dk kn (mN P)) B (blS P dk kn) k) from Int32.or_zero]; exact fin _ (by rw [ofN, if_neg (fun q => h34 q.2)])
      · skip
        replace h34 := Decidable.not_not.mp h34
        refine go_t 46 rfl ?_
        dsimp only
        rw [nI_with hk]; exact fin _ (by rw [ofN, if_pos ⟨(bit_n hX (by omega)).mp h20, h34⟩])
  · rintro _ _ ⟨rfl, rfl⟩
    refine go_t 0 rfl ?_
    refine go_nx rfl ?_
    refine go_t 0 rfl ?_
    refine go_ret rfl ?_
    exact ⟨by rw [ofN_up hb 10 hN], rfl⟩
theorem t82 {h w b : Nat} {dk kn : Int32} (hN : mN P ≤ 10) (hH : HoO L D R h w b) (hC : HsC P dk kn h w b C) (h6 : ∀ k, k < mN P → ¬ blS P dk kn k = -1 → ∃ j, j < 6 ∧ blS P dk kn k = nI j) : Ev d 82 [.ref h] (mk L D C M R n s) (Rt (Is (some (.int (nI (bcN (inN P dk kn (mN P)) (blS P dk kn) (mN P))))) (mk L D C M R n s))) := by
  obtain ⟨⟨o1, o2, o3, o4, o5, o6, o7, o8⟩, _⟩ := hH
  have oO : Rd L D h 1 0 := ⟨o1, cw_m o2⟩
  have oB : Rd L D b 101 10 := ⟨o5, cw_m o6⟩
  obtain ⟨c1, c2, c3⟩ := hC
  have hX := inN_1024 (dk := dk) (kn := kn) (P := P) hN
  have hb : ∀ j, (inN P dk kn (mN P)).testBit j = true → j < mN P := fun j hj => (inN_tb.mp hj).1
  refine ev_in rfl ?_
  refine go_t 4 rfl ?_
  refine go_for 10 (fun k Lc m => Lc = [some (.ref h), some (.int (nI (bcN (inN P dk kn (mN P)) (blS P dk kn) k))), some (.int (nI k))] ∧ m = mk L D C M R n s) ⟨rfl, rfl⟩ ?_ ?_
  · rintro k _ _ hk ⟨rfl, rfl⟩ kk
    have fin : ∀ q, q = bcN (inN P dk kn (mN P)) (blS P dk kn) (k + 1) → Go d 82 37 [some (.ref h), some (.int (nI q)), some (.int (nI k))] [] (mk L D C M R n s) _ := fun q hq => by
      subst hq
      refine go_t 4 rfl (kk _ _ ⟨?_, rfl⟩)
      rw [← nI_1]
    refine go_t 0 rfl ?_
    refine go_bf rfl (by exact (nI_ge hk (by decide))) ?_
    refine go_t 0 rfl ?_
    refine go_gI rfl oO.k oO.m rfl ?_
    rw [c1]
    refine go_t 0 rfl ?_
    dsimp only
    refine go_br rfl (fun h20 => ?_) (fun h20 => ?_)
    · skip
      refine go_t 37 rfl ?_
      dsimp only
      rw [show nI (bcN (inN P dk kn (mN P)) (blS P dk kn) k) ||| 0 = nI (bcN (inN P dk kn (mN P)) (blS P dk kn) k) from Int32.or_zero]; exact fin _ (by rw [bcN, if_neg (fun q => h20 ((bit_n hX (by omega)).mpr q))])
    · skip
      replace h20 := Decidable.not_not.mp h20
      refine go_t 0 rfl ?_
      refine go_gR rfl oO.k rfl o8 ?_
      refine go_t 0 rfl ?_
      refine go_aldC rfl oB.k oB.m rfl rfl (by omega) (by decide) ?_
      have hh := inN_tb.mp ((bit_n hX (by omega)).mp h20)
      obtain ⟨j, hj, ej⟩ := h6 k hh.1 hh.2
      rw [(c3 k hh.1).1, ej]
      refine go_t 37 rfl ?_
      dsimp only
      rw [nI_with (by omega)]; exact fin _ (by rw [bcN, if_pos ((bit_n hX (by omega)).mp h20), ej, nI_clamp (by omega)])
  · rintro _ _ ⟨rfl, rfl⟩
    refine go_t 0 rfl ?_
    refine go_nx rfl ?_
    refine go_t 0 rfl ?_
    refine go_ret rfl ?_
    exact ⟨by rw [bcN_up hb 10 hN], rfl⟩
end CH
