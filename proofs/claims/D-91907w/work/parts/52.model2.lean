/-! THE MODEL: all sets, and what is told of them -/
set_option maxRecDepth 100000
section MP
variable {d L n s : Nat} {D : Nat → Nat × Nat} {C M P : Nat → Nat → Int32} {R : Nat → Nat → Option Nat} {m : Mem}
/-- in a view: who is in -/
abbrev iN (P : Nat → Nat → Int32) : Nat := inN P (P 305 8) (P 305 9) (mN P)
/-- whether a set of those in carries, in the view -/
abbrev crP (P : Nat → Nat → Int32) (r S : Nat) : Prop := nsub S (iN P) = 0 ∧ carP P (P 305 8) (P 305 9) r S
abbrev HsV (P M : Nat → Nat → Int32) : Prop := HsM P (P 305 8) (P 305 9) M
def wC (a k : Nat) : Bool := wF a k || Nat.beq a 321 || Nat.beq a 322
theorem wF_wC {a k : Nat} (h : wC a k = false) : wF a k = false := by
  simp only [wC, Bool.or_eq_false_iff] at h
  exact h.1.1
theorem wC_per {a k : Nat} (h : per a k = true) : wC a k = false := by
  simp only [wC, Bool.or_eq_false_iff]
  refine ⟨⟨wF_per h, ?_⟩, ?_⟩
  · cases hq : Nat.beq a 321 with
    | false => rfl
    | true => have := Nat.eq_of_beq_eq_true hq; subst this; exact absurd h (by simp [per])
  · cases hq : Nat.beq a 322 with
    | false => rfl
    | true => have := Nat.eq_of_beq_eq_true hq; subst this; exact absurd h (by simp [per])
theorem Fm.up {W W' : Nat → Nat → Bool} {M' : Nat → Nat → Int32} (h : Fm W M M') (hw : ∀ a k, W' a k = false → W a k = false) : Fm W' M M' := fun a k q => h a k (hw a k q)
theorem Fm.fu {W : Nat → Nat → Bool} {M' : Nat → Nat → Int32} {a : Nat} {f : Nat → Int32} (h : Fm W M M') (hw : ∀ k, W a k = true) : Fm W M (fu M' a f) := fun b j hb => by
  rw [← h b j hb]
  exact congrFun (fu_ne (fun q => by subst q; rw [hw j] at hb; cases hb)) j
theorem iN_lt (h : mN P ≤ 10) : iN P < 1024 := inN_1024 h
theorem t134 {r : Nat} (hP : pr M = P) (hV : VP1 P) (hV2 : VP2 P) (hr : r < 4) : Ev (d + 5) 134 [.ref 305, .int (nI r)] (mk L D C M R n s) (Rt (fun v m' => v = none ∧ ∃ M', m' = mk L D C M' R n s ∧ Fm wC M M' ∧ HsV P M' ∧ ∀ S, S < 1024 → M' 322 S = bI (crP P r S))) := by
  have hX := iN_lt hV.2.1
  refine ev_in rfl ?_
  refine go_t 0 rfl ?_
  refine go_c rfl rfl (t95 hP hV) (fun v1 m1 hq1 => ?_)
  obtain ⟨rfl, M1, rfl, hF, hH⟩ := hq1
  refine go_t 6 rfl ?_
  refine go_for 1024 (fun k Lc m => ∃ M', Lc = [some (.ref 305), some (.int (nI r)), some (.int (nI k))] ∧ m = mk L D C M' R n s ∧ Fm wC M M' ∧ HsV P M' ∧ ∀ S, S < k → M' 322 S = bI (crP P r S)) ⟨M1, rfl, rfl, hF.up fun _ _ => wF_wC, hH, fun S h => absurd h (by omega)⟩ ?_ ?_
  · rintro k _ _ hk ⟨M2, rfl, rfl, hF2, hH2, hc⟩ kk
    have hP2 : pr M2 = P := (hF2.pr fun _ _ => wC_per).trans hP
    have fin : ∀ f (c : Prop) [Decidable c], (c ↔ crP P r k) → Go (d + 5) 134 44 [some (.ref 305), some (.int (nI r)), some (.int (nI k))] [] (mk L D C (wr (fu M2 321 f) 322 k (bI c)) R n s) _ := fun f c _ hcc => by
      refine go_t 6 rfl (kk _ _ ⟨_, ?_, rfl, (hF2.fu fun _ => rfl).wr rfl, (hH2.fu (by decide) (by decide) (by decide)).wr (Or.inl (by decide)) (by decide) (by decide), fun S hS => ?_⟩)
      · rw [← nI_1]
      · by_cases e : S = k
        · subst e
          rw [wrs]
          by_cases hq : c
          · rw [bI_t hq, bI_t (hcc.mp hq)]
          · rw [bI_f hq, bI_f (fun z => hq (hcc.mpr z))]
        · rw [wrk e, fu_ne (by decide)]
          exact hc S (by omega)
    have e26 : nI k &&& (nI (iN P) ^^^ (-1)) = 0 ↔ nsub k (iN P) = 0 := by
      have : nsub k (iN P) ≤ k := nsub_le
      rw [nI_not, nI_zero (by omega)]
    refine go_t 0 rfl ?_
    refine go_bf rfl (by exact (nI_ge hk (by decide))) ?_
    refine go_t 0 rfl ?_
    refine go_gR rfl rfl rfl rfl ?_
    refine go_t 0 rfl ?_
    refine go_gM rfl rfl rfl rfl ?_
    rw [hH2.1]
    refine go_t 0 rfl ?_
    dsimp only
    refine go_br rfl (fun h26 => ?_) (fun h26 => ?_)
    · skip
      refine go_t 0 rfl ?_
      refine go_bastM (k := k) rfl rfl rfl rfl rfl rfl (by omega) (by decide) ?_
      first
        | (have := fin (M2 321) False (by constructor <;> first | exact False.elim | exact fun q => h26 (e26.mpr q.1)); rw [fu_id] at this; exact this)
        | exact fin f False ⟨False.elim, fun q => h35 q.2⟩
        | exact fin f True ⟨fun _ => ⟨e26.mp h26, h35⟩, fun _ => trivial⟩
    · skip
      replace h26 := Decidable.not_not.mp h26
      refine go_t 0 rfl ?_
      refine go_c rfl rfl (t127 hP2 hV hV2 hH2 hr hk) (fun v32 m32 hq32 => ?_)
      obtain ⟨rfl, f, rfl⟩ := hq32
      refine go_br rfl (fun h35 => ?_) (fun h35 => ?_)
      · skip
        replace h35 := bI_0.mp h35
        refine go_t 0 rfl ?_
        refine go_bastM (k := k) rfl rfl rfl rfl rfl rfl (by omega) (by decide) ?_
        first
          | (have := fin (M2 321) False (by constructor <;> first | exact False.elim | exact fun q => h26 (e26.mpr q.1)); rw [fu_id] at this; exact this)
          | exact fin f False ⟨False.elim, fun q => h35 q.2⟩
          | exact fin f True ⟨fun _ => ⟨e26.mp h26, h35⟩, fun _ => trivial⟩
      · skip
        replace h35 := bI_n0.mp h35
        refine go_t 0 rfl ?_
        refine go_bastM (k := k) rfl rfl rfl rfl rfl rfl (by omega) (by decide) ?_
        first
          | (have := fin (M2 321) False (by constructor <;> first | exact False.elim | exact fun q => h26 (e26.mpr q.1)); rw [fu_id] at this; exact this)
          | exact fin f False ⟨False.elim, fun q => h35 q.2⟩
          | exact fin f True ⟨fun _ => ⟨e26.mp h26, h35⟩, fun _ => trivial⟩
  · rintro _ _ ⟨M2, rfl, rfl, hF2, hH2, hc⟩
    refine go_t 0 rfl ?_
    refine go_nx rfl ?_
    refine go_ret rfl ?_
    exact ⟨rfl, M2, rfl, hF2, hH2, hc⟩
theorem bI_iff {a b : Prop} [Decidable a] [Decidable b] (h : a ↔ b) : bI a = bI b := by
  by_cases ha : a
  · rw [bI_t ha, bI_t (h.mp ha)]
  · rw [bI_f ha, bI_f (fun q => ha (h.mpr q))]
abbrev dsP (cr : Nat → Prop) (X : Nat) (w : Int32) (S : Nat) : Prop := if w = 0 then cr S else ¬ cr (nsub X S)
theorem t136 {cr : Nat → Prop} [DecidablePred cr] {X S : Nat} {w : Int32} (hX : X < 1024) (hm : M 305 12 = nI X) (hc : ∀ S, S < 1024 → M 322 S = bI (cr S)) (hS : S < 1024) : Ev d 136 [.ref 305, .int w, .int (nI S)] (mk L D C M R n s) (Rt (Is (some (.int (bI (dsP cr X w S)))) (mk L D C M R n s))) := by
  have hc1 := hc S hS
  have hc2 := hc (nsub X S) (nsub_lt hX)
  have hlt : nsub X S < 1024 := nsub_lt hX
  refine ev_in rfl ?_
  refine go_t 0 rfl ?_
  refine go_br rfl (fun h1 => ?_) (fun h1 => ?_)
  · skip
    refine go_t 0 rfl ?_
    refine go_gR rfl rfl rfl rfl ?_
    refine go_t 0 rfl ?_
    refine go_gM rfl rfl rfl rfl ?_
    rw [hm]
    refine go_t 0 rfl ?_
    dsimp only
    refine go_aldM (k := nsub X S) rfl rfl rfl rfl (nI_not _ _) (by omega) (by decide) ?_
    rw [hc2]
    refine go_br rfl (fun h26 => ?_) (fun h26 => ?_)
    · skip
      refine go_t 0 rfl ?_
      refine go_rtb rfl (by first | exact retOK_bI | rfl) ?_
      exact ⟨by rw [bI_f (fun q => by rw [dsP, if_neg h1] at q; exact q (bI_n0.mp h26))], rfl⟩
    · skip
      replace h26 := Decidable.not_not.mp h26
      refine go_t 0 rfl ?_
      refine go_rtb rfl (by first | exact retOK_bI | rfl) ?_
      exact ⟨by rw [bI_t (by rw [dsP, if_neg h1]; exact bI_0.mp h26)], rfl⟩
  · skip
    replace h1 := Decidable.not_not.mp h1
    refine go_t 0 rfl ?_
    refine go_gR rfl rfl rfl rfl ?_
    refine go_t 0 rfl ?_
    refine go_aldM rfl rfl rfl rfl rfl (by omega) (by decide) ?_
    rw [hc1]
    refine go_t 0 rfl ?_
    refine go_rtb rfl (by first | exact retOK_bI | rfl) ?_
    exact ⟨by rw [bI_iff (show dsP cr X w S ↔ cr S by rw [dsP, if_pos h1])], rfl⟩
/-- a least one: no lesser part does -/
abbrev lsP (p : Nat → Prop) (S : Nat) : Prop := p S ∧ ∀ q, q < S → nsub q S = 0 → ¬ p q
theorem t135 {cr : Nat → Prop} [DecidablePred cr] {X S : Nat} {w : Int32} (hX : X < 1024) (hm : M 305 12 = nI X) (hc : ∀ S, S < 1024 → M 322 S = bI (cr S)) (hS : S < 1024) : Ev (d + 1) 135 [.ref 305, .int w, .int (nI S)] (mk L D C M R n s) (Rt (Is (some (.int (bI (lsP (dsP cr X w) S)))) (mk L D C M R n s))) := by
  refine ev_in rfl ?_
  refine go_t 0 rfl ?_
  refine go_f rfl rfl (t136 hX hm hc hS) ?_
  refine go_br rfl (fun h6 => ?_) (fun h6 => ?_)
  rotate_left
  · skip
    replace h6 := bI_0.mp (Decidable.not_not.mp h6)
    refine go_t 0 rfl ?_
    refine go_ret rfl ?_
    exact ⟨by rw [bI_f (fun q => h6 q.1)], rfl⟩
  replace h6 := bI_n0.mp h6
  refine go_t 13 rfl ?_
  refine go_ind (k := S) (fun p Lc m => Lc = [some (.ref 305), some (.int w), some (.int (nI S)), some (.int (nI p))] ∧ m = mk L D C M R n s ∧ nsub p S = 0 ∧ ∀ q, q < S → nsub q S = 0 → p ≤ q → ¬ dsP cr X w q) ?_ ⟨rfl, rfl, sub_rf S, fun q h1 h2 h3 => absurd h1 (by omega)⟩
  rintro p _ _ ⟨rfl, rfl, hp, hq⟩ kk
  have hle := sub_le hp
  by_cases h0 : p = 0
  · subst h0
    refine go_t 0 rfl ?_
    refine go_nx rfl ?_
    refine go_t 0 rfl ?_
    refine go_ret rfl ?_
    exact ⟨by rw [bI_t ⟨h6, fun q h1 h2 => hq q h1 h2 (Nat.zero_le _)⟩], rfl⟩
  · have hlt := pred_lt (X := S) h0
    have e := nI_pred' (X := S) h0
    refine go_t 0 rfl ?_
    refine go_bf rfl (by exact (fun q => h0 ((nI_zero (by omega)).mp q))) ?_
    refine go_t 0 rfl ?_
    dsimp only
    refine go_f rfl rfl ((by rw [e]; exact t136 hX hm hc (by omega))) ?_
    refine go_br rfl (fun h29 => ?_) (fun h29 => ?_)
    · skip
      replace h29 := bI_0.mp h29
      rw [e]
      refine kk _ _ _ hlt ⟨rfl, rfl, and_sub, fun q h1 h2 h3 => ?_⟩
      by_cases h4 : q < p
      · have := sub_pred hp h2 h4
        rw [show q = (p - 1) &&& S by omega]
        exact h29
      · exact hq q h1 h2 (by omega)
    · skip
      replace h29 := bI_n0.mp h29
      refine go_t 0 rfl ?_
      refine go_ret rfl ?_
      exact ⟨by rw [bI_f (fun q => q.2 _ (by omega) and_sub h29)], rfl⟩
/-- how many of the first k -/
def ctN (p : Nat → Prop) [DecidablePred p] : Nat → Nat
  | 0 => 0
  | k + 1 => if p k then ctN p k + 1 else ctN p k
theorem ctN_le {p : Nat → Prop} [DecidablePred p] : ∀ k, ctN p k ≤ k := by
  intro k
  induction k with
  | zero => exact Nat.le_refl _
  | succ k ih => rw [ctN]; split <;> omega
/-- a least set of those in -/
abbrev mlP (P : Nat → Nat → Int32) (r : Nat) (w : Int32) (S : Nat) : Prop := nsub S (iN P) = 0 ∧ lsP (dsP (crP P r) (iN P) w) S
def leastsS (P : Nat → Nat → Int32) (a b : Int32) : Int32 := if (0 ≤ a ∧ a ≤ 3) ∧ (0 ≤ b ∧ b ≤ 1) then nI (ctN (mlP P a.toNatClampNeg b) 1024) else -1
theorem ru_of {a : Int32} (h : 0 ≤ a ∧ a ≤ 3) : ∃ r, r < 4 ∧ a = nI r := by
  obtain ⟨j, h1, h2⟩ := nI_of2 (M := 3) (n := 3) rfl (Int32.not_lt.mpr h.1) h.2
  exact ⟨j, by omega, h2⟩
theorem t126n {X S : Nat} (hm : M 305 12 = nI X) (hS : S < 1024) : Ev d 126 [.ref 305, .int (nI S)] (mk L D C M R n s) (Rt (Is (some (.int (bI (nsub S X = 0)))) (mk L D C M R n s))) := by
  have h := t126 (d := d) (L := L) (D := D) (C := C) (M := M) (R := R) (n := n) (s := s) (nI S)
  have e : bI (0 ≤ nI S ∧ nI S &&& (M 305 12 ^^^ (-1)) = 0) = bI (nsub S X = 0) := by
    have hs : nsub S X ≤ S := nsub_le
    rw [hm, nI_not]
    by_cases h : nsub S X = 0
    · rw [bI_t h, h, bI_t ⟨nI_pos' (by omega), rfl⟩]
    · rw [bI_f h, bI_f (fun q => h ((nI_zero (by omega)).mp q.2))]
  rw [e] at h
  exact h
theorem t133 (hP : pr M = P) (hV : VP1 P) (hV2 : VP2 P) (a b : Int32) : Ev (d + 6) 133 [.ref 305, .int a, .int b] (mk L D C M R n s) (Rt (fun v m' => v = some (.int (leastsS P a b)) ∧ ∃ M', m' = mk L D C M' R n s ∧ pr M' = P)) := by
  have hX := iN_lt hV.2.1
  refine ev_in rfl ?_
  refine go_t 0 rfl ?_
  refine go_pM rfl rfl rfl rfl ?_
  refine go_t 0 rfl ?_
  refine go_f rfl rfl (t104 _) ?_
  refine go_br rfl (fun h10 => ?_) (fun h10 => ?_)
  · skip
    replace h10 := bI_0.mp h10
    refine go_t 0 rfl ?_
    refine go_ret rfl ?_
    first
      | exact ⟨by rw [leastsS, if_neg (fun q => h10 q.1)], _, rfl, (pr_wr rfl).trans hP⟩
      | exact ⟨by rw [leastsS, if_neg (fun q => h20 q.2)], _, rfl, (pr_wr rfl).trans hP⟩
  replace h10 := bI_n0.mp h10
  refine go_t 0 rfl ?_
  refine go_f rfl rfl (t92 _ _ _ _) ?_
  refine go_br rfl (fun h20 => ?_) (fun h20 => ?_)
  rotate_left
  · skip
    replace h20 := bI_0.mp (Decidable.not_not.mp h20)
    refine go_t 0 rfl ?_
    refine go_ret rfl ?_
    first
      | exact ⟨by rw [leastsS, if_neg (fun q => h10 q.1)], _, rfl, (pr_wr rfl).trans hP⟩
      | exact ⟨by rw [leastsS, if_neg (fun q => h20 q.2)], _, rfl, (pr_wr rfl).trans hP⟩
  replace h20 := bI_n0.mp h20
  obtain ⟨r, hr, rfl⟩ := ru_of h10
  have e0 : leastsS P (nI r) b = nI (ctN (mlP P r b) 1024) := by
    rw [leastsS, if_pos ⟨h10, h20⟩, nI_clamp (by omega)]
  rw [e0]
  refine go_t 0 rfl ?_
  refine go_c rfl rfl (t134 ((pr_wr rfl).trans hP) hV hV2 hr) (fun v27 m27 hq27 => ?_)
  obtain ⟨rfl, M1, rfl, hF, hH, hc⟩ := hq27
  refine go_t 35 rfl ?_
  have hP1 : pr M1 = P := (hF.pr fun _ _ => wC_per).trans ((pr_wr rfl).trans hP)
  refine go_for 1024 (fun k Lc m => Lc = [some (.ref 305), some (.int (nI r)), some (.int b), some (.int (nI (ctN (mlP P r b) k))), some (.int (nI k))] ∧ m = mk L D C M1 R n s) ⟨rfl, rfl⟩ ?_ ?_
  · rintro k _ _ hk ⟨rfl, rfl⟩ kk
    have fin : ∀ v, v = ctN (mlP P r b) (k + 1) → Go (d + 6) 133 66 [some (.ref 305), some (.int (nI r)), some (.int b), some (.int (nI v)), some (.int (nI k))] [] (mk L D C M1 R n s) _ := fun v hv => by
      subst hv
      refine go_t 35 rfl (kk _ _ ⟨?_, rfl⟩)
      rw [← nI_1]
    refine go_t 0 rfl ?_
    refine go_bf rfl (by exact (nI_ge hk (by decide))) ?_
    refine go_t 0 rfl ?_
    refine go_f rfl rfl (t126n hH.1 hk) ?_
    refine go_br rfl (fun h49 => ?_) (fun h49 => ?_)
    · skip
      replace h49 := bI_0.mp h49
      first
        | exact fin _ (by rw [ctN, if_neg (fun q => h49 q.1)])
        | exact fin _ (by rw [ctN, if_neg (fun q => h59 q.2)])
        | (rw [nI_1]; exact fin _ (by rw [ctN, if_pos ⟨h49, h59⟩]))
    · skip
      replace h49 := bI_n0.mp h49
      refine go_t 0 rfl ?_
      refine go_f rfl rfl (t135 hX hH.1 hc hk) ?_
      refine go_br rfl (fun h59 => ?_) (fun h59 => ?_)
      · skip
        replace h59 := bI_0.mp h59
        first
          | exact fin _ (by rw [ctN, if_neg (fun q => h49 q.1)])
          | exact fin _ (by rw [ctN, if_neg (fun q => h59 q.2)])
          | (rw [nI_1]; exact fin _ (by rw [ctN, if_pos ⟨h49, h59⟩]))
      · skip
        replace h59 := bI_n0.mp h59
        refine go_t 66 rfl ?_
        dsimp only
        first
          | exact fin _ (by rw [ctN, if_neg (fun q => h49 q.1)])
          | exact fin _ (by rw [ctN, if_neg (fun q => h59 q.2)])
          | (rw [nI_1]; exact fin _ (by rw [ctN, if_pos ⟨h49, h59⟩]))
  · rintro _ _ ⟨rfl, rfl⟩
    refine go_t 0 rfl ?_
    refine go_nx rfl ?_
    refine go_t 0 rfl ?_
    refine go_ret rfl ?_
    exact ⟨rfl, M1, rfl, hP1⟩
/-- the i-th of those with p, below k -/
def ithN (p : Nat → Prop) [DecidablePred p] (i : Nat) : Nat → Option Nat
  | 0 => none
  | k + 1 => match ithN p i k with
    | some x => some x
    | none => if p k ∧ ctN p k = i then some k else none
theorem ith_some {p : Nat → Prop} [DecidablePred p] {i N k : Nat} (hp : p k) (hi : ctN p k = i) (hn : ithN p i k = none) (hk : k < N) : ithN p i N = some k := by
  have h1 : ithN p i (k + 1) = some k := by rw [ithN, hn]; exact if_pos ⟨hp, hi⟩
  have : ∀ j, ithN p i (k + 1 + j) = some k := by
    intro j
    induction j with
    | zero => exact h1
    | succ j ih => rw [← Nat.add_assoc, ithN, ih]
  have h2 := this (N - (k + 1))
  rwa [show k + 1 + (N - (k + 1)) = N by omega] at h2
def leastS (P : Nat → Nat → Int32) (a b i : Int32) : Int32 := if (0 ≤ a ∧ a ≤ 3) ∧ (0 ≤ b ∧ b ≤ 1) ∧ 0 ≤ i then oi (ithN (mlP P a.toNatClampNeg b) i.toNatClampNeg 1024) else -1
theorem t137 (hP : pr M = P) (hV : VP1 P) (hV2 : VP2 P) (a b i : Int32) : Ev (d + 6) 137 [.ref 305, .int a, .int b, .int i] (mk L D C M R n s) (Rt (fun v m' => v = some (.int (leastS P a b i)) ∧ ∃ M', m' = mk L D C M' R n s ∧ pr M' = P)) := by
  have hX := iN_lt hV.2.1
  refine ev_in rfl ?_
  refine go_t 0 rfl ?_
  refine go_pM rfl rfl rfl rfl ?_
  refine go_t 0 rfl ?_
  refine go_f rfl rfl (t104 _) ?_
  refine go_br rfl (fun h10 => ?_) (fun h10 => ?_)
  · skip
    replace h10 := bI_0.mp h10
    refine go_t 0 rfl ?_
    refine go_ret rfl ?_
    first
      | exact ⟨by rw [leastS, if_neg (fun q => h10 q.1)], _, rfl, (pr_wr rfl).trans hP⟩
      | exact ⟨by rw [leastS, if_neg (fun q => h20 q.2.1)], _, rfl, (pr_wr rfl).trans hP⟩
      | exact ⟨by rw [leastS, if_neg (fun q => h24 q.2.2)], _, rfl, (pr_wr rfl).trans hP⟩
  replace h10 := bI_n0.mp h10
  refine go_t 0 rfl ?_
  refine go_f rfl rfl (t92 _ _ _ _) ?_
  refine go_br rfl (fun h20 => ?_) (fun h20 => ?_)
  · skip
    replace h20 := bI_0.mp h20
    refine go_t 0 rfl ?_
    refine go_ret rfl ?_
    first
      | exact ⟨by rw [leastS, if_neg (fun q => h10 q.1)], _, rfl, (pr_wr rfl).trans hP⟩
      | exact ⟨by rw [leastS, if_neg (fun q => h20 q.2.1)], _, rfl, (pr_wr rfl).trans hP⟩
      | exact ⟨by rw [leastS, if_neg (fun q => h24 q.2.2)], _, rfl, (pr_wr rfl).trans hP⟩
  replace h20 := bI_n0.mp h20
  refine go_t 0 rfl ?_
  refine go_br rfl (fun h24 => ?_) (fun h24 => ?_)
  rotate_left
  · skip
    refine go_t 0 rfl ?_
    refine go_ret rfl ?_
    first
      | exact ⟨by rw [leastS, if_neg (fun q => h10 q.1)], _, rfl, (pr_wr rfl).trans hP⟩
      | exact ⟨by rw [leastS, if_neg (fun q => h20 q.2.1)], _, rfl, (pr_wr rfl).trans hP⟩
      | exact ⟨by rw [leastS, if_neg (fun q => h24 q.2.2)], _, rfl, (pr_wr rfl).trans hP⟩
  obtain ⟨r, hr, rfl⟩ := ru_of h10
  obtain ⟨j, hj, rfl⟩ := nI_of' h24
  have e0 : leastS P (nI r) b (nI j) = oi (ithN (mlP P r b) j 1024) := by
    rw [leastS, if_pos ⟨h10, h20, h24⟩, nI_clamp (by omega), nI_clamp hj]
  rw [e0]
  refine go_t 0 rfl ?_
  refine go_c rfl rfl (t134 ((pr_wr rfl).trans hP) hV hV2 hr) (fun v31 m31 hq31 => ?_)
  obtain ⟨rfl, M1, rfl, hF, hH, hc⟩ := hq31
  refine go_t 40 rfl ?_
  have hP1 : pr M1 = P := (hF.pr fun _ _ => wC_per).trans ((pr_wr rfl).trans hP)
  refine go_for 1024 (fun k Lc m => Lc = [some (.ref 305), some (.int (nI r)), some (.int b), some (.int (nI j)), some (.int (nI (ctN (mlP P r b) k))), some (.int (nI k))] ∧ m = mk L D C M1 R n s ∧ ithN (mlP P r b) j k = none) ⟨rfl, rfl, rfl⟩ ?_ ?_
  · rintro k _ _ hk ⟨rfl, rfl, hn⟩ kk
    have hle := ctN_le (p := mlP P r b) k
    have fin : ∀ v, v = ctN (mlP P r b) (k + 1) → ithN (mlP P r b) j (k + 1) = none → Go (d + 6) 137 85 [some (.ref 305), some (.int (nI r)), some (.int b), some (.int (nI j)), some (.int (nI v)), some (.int (nI k))] [] (mk L D C M1 R n s) _ := fun v hv h2 => by
      subst hv
      refine go_t 40 rfl (kk _ _ ⟨?_, rfl, h2⟩)
      rw [← nI_1]
    refine go_t 0 rfl ?_
    refine go_bf rfl (by exact (nI_ge hk (by decide))) ?_
    refine go_t 0 rfl ?_
    refine go_f rfl rfl (t126n hH.1 hk) ?_
    refine go_br rfl (fun h54 => ?_) (fun h54 => ?_)
    · skip
      replace h54 := bI_0.mp h54
      first
        | exact fin _ (by rw [ctN, if_neg (fun q => h54 q.1)]) (by rw [ithN, hn]; exact if_neg (fun q => h54 q.1.1))
        | exact fin _ (by rw [ctN, if_neg (fun q => h64 q.2)]) (by rw [ithN, hn]; exact if_neg (fun q => h64 q.1.2))
        | (rw [nI_1]; exact fin _ (by rw [ctN, if_pos ⟨h54, h64⟩]) (by rw [ithN, hn]; exact if_neg (fun q => h73 (by rw [q.2]))))
    · skip
      replace h54 := bI_n0.mp h54
      refine go_t 0 rfl ?_
      refine go_f rfl rfl (t135 hX hH.1 hc hk) ?_
      refine go_br rfl (fun h64 => ?_) (fun h64 => ?_)
      · skip
        replace h64 := bI_n0.mp h64
        refine go_t 0 rfl ?_
        refine go_br rfl (fun h73 => ?_) (fun h73 => ?_)
        · skip
          refine go_t 85 rfl ?_
          dsimp only
          first
            | exact fin _ (by rw [ctN, if_neg (fun q => h54 q.1)]) (by rw [ithN, hn]; exact if_neg (fun q => h54 q.1.1))
            | exact fin _ (by rw [ctN, if_neg (fun q => h64 q.2)]) (by rw [ithN, hn]; exact if_neg (fun q => h64 q.1.2))
            | (rw [nI_1]; exact fin _ (by rw [ctN, if_pos ⟨h54, h64⟩]) (by rw [ithN, hn]; exact if_neg (fun q => h73 (by rw [q.2]))))
        · skip
          replace h73 := Decidable.not_not.mp h73
          refine go_t 0 rfl ?_
          refine go_ret rfl ?_
          exact ⟨by rw [ith_some ⟨h54, h64⟩ ((nI_eq (by omega) hj).mp h73) hn hk]; rfl, M1, rfl, hP1⟩
      · skip
        replace h64 := bI_0.mp (Decidable.not_not.mp h64)
        refine go_t 85 rfl ?_
        first
          | exact fin _ (by rw [ctN, if_neg (fun q => h54 q.1)]) (by rw [ithN, hn]; exact if_neg (fun q => h54 q.1.1))
          | exact fin _ (by rw [ctN, if_neg (fun q => h64 q.2)]) (by rw [ithN, hn]; exact if_neg (fun q => h64 q.1.2))
          | (rw [nI_1]; exact fin _ (by rw [ctN, if_pos ⟨h54, h64⟩]) (by rw [ithN, hn]; exact if_neg (fun q => h73 (by rw [q.2]))))
  · rintro _ _ ⟨rfl, rfl, hn⟩
    refine go_t 0 rfl ?_
    refine go_nx rfl ?_
    refine go_t 0 rfl ?_
    refine go_ret rfl ?_
    exact ⟨by rw [hn]; rfl, M1, rfl, hP1⟩
end MP
