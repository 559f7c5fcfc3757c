/-! THE MODEL: small methods, the division, what is asked of it -/
set_option maxRecDepth 100000
section MO
variable {d L n s : Nat} {D : Nat → Nat × Nat} {C M P : Nat → Nat → Int32} {R : Nat → Nat → Option Nat} {m : Mem}
theorem t92 (o : Nat) (v a b : Int32) : Ev d 92 [.ref o, .int v, .int a, .int b] m (Rt (Is (some (.int (bI (a ≤ v ∧ v ≤ b)))) m)) := t_isIn92 d o v a b m
theorem t91 (v : Int32) : Ev (d + 1) 91 [.ref 305, .int v] (mk L D C M R n s) (Rt (Is (some (.int (bI (0 ≤ v ∧ v ≤ 999)))) (mk L D C M R n s))) := by
  refine ev_in rfl ?_
  refine go_t 0 rfl ?_
  refine go_f rfl rfl (t92 _ _ _ _) ?_
  refine go_rtb rfl retOK_bI ?_
  exact ⟨rfl, rfl⟩
theorem t104 (v : Int32) : Ev (d + 1) 104 [.ref 305, .int v] (mk L D C M R n s) (Rt (Is (some (.int (bI (0 ≤ v ∧ v ≤ 3)))) (mk L D C M R n s))) := by
  refine ev_in rfl ?_
  refine go_t 0 rfl ?_
  refine go_f rfl rfl (t92 _ _ _ _) ?_
  refine go_rtb rfl retOK_bI ?_
  exact ⟨rfl, rfl⟩
theorem t151 (v : Int32) : Ev (d + 1) 151 [.ref 305, .int v] (mk L D C M R n s) (Rt (Is (some (.int (bI (0 ≤ v ∧ v ≤ 5)))) (mk L D C M R n s))) := by
  refine ev_in rfl ?_
  refine go_t 0 rfl ?_
  refine go_f rfl rfl (t92 _ _ _ _) ?_
  refine go_rtb rfl retOK_bI ?_
  exact ⟨rfl, rfl⟩
theorem t90' (v : Int32) : Ev d 90 [.ref 305, .int v] (mk L D C M R n s) (Rt (Is (some (.int (bI (0 ≤ v ∧ v < M 305 1)))) (mk L D C M R n s))) := t90 v
theorem t126 (v : Int32) : Ev d 126 [.ref 305, .int v] (mk L D C M R n s) (Rt (Is (some (.int (bI (0 ≤ v ∧ v &&& (M 305 12 ^^^ (-1)) = 0)))) (mk L D C M R n s))) := by
  refine ev_in rfl ?_
  refine go_t 0 rfl ?_
  refine go_br rfl (fun h1 => ?_) (fun h1 => ?_)
  · skip
    refine go_t 0 rfl ?_
    refine go_ret rfl ?_
    exact ⟨by rw [bI_f (fun q => absurd q.1 (Int32.not_le.mpr h1))], rfl⟩
  · skip
    refine go_t 0 rfl ?_
    refine go_gM rfl rfl rfl rfl ?_
    refine go_t 0 rfl ?_
    dsimp only
    refine go_br rfl (fun h12 => ?_) (fun h12 => ?_)
    · skip
      refine go_t 0 rfl ?_
      refine go_ret rfl ?_
      exact ⟨by rw [bI_f (fun q => h12 q.2)], rfl⟩
    · skip
      replace h12 := Decidable.not_not.mp h12
      refine go_t 0 rfl ?_
      refine go_ret rfl ?_
      exact ⟨by rw [bI_t ⟨Int32.not_lt.mp h1, h12⟩], rfl⟩
theorem oi_ne {o : Option Nat} {i : Nat} (h : o = some i) (hi : i < 2 ^ 31) : ¬ oi o = -1 := by
  subst h
  rw [oi_n (fun j hj => by cases hj; exact hi)]
  exact fun q => by cases q
theorem nI_m1 {i : Nat} (hi : i < 2 ^ 31) : ¬ nI i = -1 := oi_ne (o := some i) rfl hi
/-- the Model's finds: the division on a day as known -/
def wF (a k : Nat) : Bool := (Nat.beq a 305 && (Nat.beq k 12 || Nat.beq k 13 || Nat.beq k 14)) || Nat.beq a 313 || Nat.beq a 314
def Fm (W : Nat → Nat → Bool) (M M' : Nat → Nat → Int32) : Prop := ∀ a k, W a k = false → M' a k = M a k
theorem Fm.rf {W : Nat → Nat → Bool} : Fm W M M := fun _ _ _ => rfl
theorem Fm.wr {W : Nat → Nat → Bool} {M' : Nat → Nat → Int32} {a k : Nat} {v : Int32} (h : Fm W M M') (hw : W a k = true) : Fm W M (wr M' a k v) := fun b j hb => by
  rw [← h b j hb]
  by_cases e : b = a
  · subst e
    exact wrk (fun q => by subst q; rw [hb] at hw; cases hw)
  · rw [wr_ne e]
theorem Fm.tr {W : Nat → Nat → Bool} {M' M'' : Nat → Nat → Int32} (h : Fm W M M') (h2 : Fm W M' M'') : Fm W M M'' := fun b j hb => (h2 b j hb).trans (h b j hb)
theorem Fm.pr {W : Nat → Nat → Bool} {M' : Nat → Nat → Int32} (h : Fm W M M') (hw : ∀ a k, per a k = true → W a k = false) : pr M' = pr M := pr_eq fun a k hp => h a k (hw a k hp)
theorem wF_per {a k : Nat} (h : per a k = true) : wF a k = false := by
  cases hw : wF a k with
  | false => rfl
  | true =>
    exfalso
    simp only [wF, Bool.or_eq_true, Bool.and_eq_true] at hw
    rcases hw with (⟨h1, (h2 | h2) | h2⟩ | h1) | h1 <;> (have h1 := Nat.eq_of_beq_eq_true h1; subst h1)
    · have h2 := Nat.eq_of_beq_eq_true h2; subst h2; cases h
    · have h2 := Nat.eq_of_beq_eq_true h2; subst h2; cases h
    · have h2 := Nat.eq_of_beq_eq_true h2; subst h2; cases h
    · exact absurd h (by simp [per])
    · exact absurd h (by simp [per])
/-- after the first k members -/
def hsK (P : Nat → Nat → Int32) (dk kn : Int32) (k : Nat) (M : Nat → Nat → Int32) : Prop := M 305 12 = nI (inN P dk kn k) ∧ M 305 13 = nI (myN P dk kn k) ∧ M 305 14 = alI P dk kn k ∧ ∀ m, m < k → M 314 m = blS P dk kn m ∧ M 313 m = wtS P dk kn m
theorem hsK_no {dk kn : Int32} {k : Nat} (h : hsK P dk kn k M) (hb : blS P dk kn k = -1) : hsK P dk kn (k + 1) (wr (wr M 314 k (-1)) 313 k 0) := by
  obtain ⟨h1, h2, h3, h4⟩ := h
  have hw : wtS P dk kn k = 0 := by rw [wtS, if_pos hb]
  refine ⟨?_, ?_, ?_, ?_⟩
  · rw [inN, if_pos hb]; exact h1
  · rw [myN, if_pos hb]; exact h2
  · rw [alI, if_pos hb]; exact h3
  · intro m hm
    by_cases e : m = k
    · subst e
      refine ⟨?_, ?_⟩
      · rw [wr_ne (by decide), wrs, hb]
      · rw [wrs, hw]
    · have := h4 m (by omega)
      refine ⟨?_, ?_⟩
      · rw [wr_ne (by decide), wrk e]; exact this.1
      · rw [wrk e, wr_ne (by decide)]; exact this.2
theorem hsK_yes {dk kn : Int32} {k i : Nat} (h : hsK P dk kn k M) (hk : k < 31) (hi : bst P dk kn (nI k) (sN P) = some i) (hb : ¬ P 309 i = -1) :
    hsK P dk kn (k + 1) (wr (wr (wr (wr (wr M 314 k (P 309 i)) 313 k (P 308 i)) 305 12 (nI (inN P dk kn k) ||| (1 : Int32) <<< (nI k &&& 31))) 305 13 (nI (myN P dk kn k) + 1)) 305 14 (alI P dk kn k + P 308 i)) := by
  obtain ⟨h1, h2, h3, h4⟩ := h
  have hbl : blS P dk kn k = P 309 i := by rw [blS, hi]
  have hb' : ¬ blS P dk kn k = -1 := by rw [hbl]; exact hb
  have hw : wtS P dk kn k = P 308 i := by rw [wtS, if_neg hb', hi]
  refine ⟨?_, ?_, ?_, ?_⟩
  · rw [inN, if_neg hb', wrk (by decide), wrk (by decide), wrs, show (1 : Int32) = nI 1 from rfl, nI_shl (by omega) (by
      have : 2 ^ k < 2 ^ 32 := Nat.pow_lt_pow_right (by decide) (by omega)
      omega), nI_or, Nat.one_mul]
  · rw [myN, if_neg hb', wrk (by decide), wrs, nI_1]
  · rw [alI, if_neg hb', wrs, hw]
  · intro m hm
    have a1 : ∀ x y z u v, wr (wr (wr (wr (wr M 314 k x) 313 k y) 305 12 z) 305 13 u) 305 14 v 314 = wr M 314 k x 314 := fun x y z u v => by rw [wr_ne (by decide), wr_ne (by decide), wr_ne (by decide), wr_ne (by decide)]
    have a2 : ∀ x y z u v, wr (wr (wr (wr (wr M 314 k x) 313 k y) 305 12 z) 305 13 u) 305 14 v 313 = wr (wr M 314 k x) 313 k y 313 := fun x y z u v => by rw [wr_ne (by decide), wr_ne (by decide), wr_ne (by decide)]
    rw [a1, a2]
    by_cases e : m = k
    · subst e
      exact ⟨by rw [wrs, hbl], by rw [wrs, hw]⟩
    · have := h4 m (by omega)
      exact ⟨by rw [wrk e]; exact this.1, by rw [wrk e, wr_ne (by decide)]; exact this.2⟩
theorem t96 (hP : pr M = P) (hV : VP1 P) (dk kn : Int32) : Ev d 96 [.ref 305, .int dk, .int kn] (mk L D C M R n s) (Rt (fun v m' => v = none ∧ ∃ M', m' = mk L D C M' R n s ∧ Fm wF M M' ∧ HsM P dk kn M')) := by
  obtain ⟨v1, v2, v3, v4⟩ := hV
  refine ev_in rfl ?_
  refine go_t 0 rfl ?_
  refine go_pM rfl rfl rfl rfl ?_
  refine go_t 0 rfl ?_
  refine go_pM rfl rfl rfl rfl ?_
  refine go_t 0 rfl ?_
  refine go_pM rfl rfl rfl rfl ?_
  refine go_t 17 rfl ?_
  refine go_for (mN P) (fun k Lc m => ∃ x4 x5 M', Lc = [some (.ref 305), some (.int dk), some (.int kn), some (.int (nI k)), x4, x5] ∧ m = mk L D C M' R n s ∧ Fm wF M M' ∧ hsK P dk kn k M') ?_ ?_ ?_
  · refine ⟨none, none, _, rfl, rfl, ((Fm.rf.wr rfl).wr rfl).wr rfl, ?_, ?_, ?_, fun m hm => absurd hm (by omega)⟩
    · rw [wrk (by decide), wrk (by decide), wrs]; rfl
    · rw [wrk (by decide), wrs]; rfl
    · rw [wrs]; rfl
  · rintro k _ _ hk ⟨x4, x5, M1, rfl, rfl, hF, hK⟩ kk
    have hp : ∀ {a j}, per a j = true → M1 a j = P a j := fun h => pr_rd ((hF.pr fun _ _ => wF_per).trans hP) h
    have e1 : M1 305 1 = nI (mN P) := (hp rfl).trans v1
    have e2 : M1 305 2 = nI (sN P) := (hp rfl).trans v3
    refine go_t 0 rfl ?_
    refine go_gM rfl rfl rfl rfl ?_
    refine go_bf rfl (by rw [e1]; exact nI_ge hk (by omega)) ?_
    refine go_t 31 rfl ?_
    refine go_for (sN P) (fun i Lc m => Lc = [some (.ref 305), some (.int dk), some (.int kn), some (.int (nI k)), some (.int (oi (bst P dk kn (nI k) i))), some (.int (nI i))] ∧ m = mk L D C M1 R n s) ⟨rfl, rfl⟩ ?_ ?_
    · rintro i _ _ hi ⟨rfl, rfl⟩ ki
      have hb : ∀ j, bst P dk kn (nI k) i = some j → j < 2 ^ 31 := fun j hj => by have := bst_lt hj; omega
      have e3 : M1 306 i = P 306 i := hp rfl
      have e4 : M1 307 i = P 307 i := hp rfl
      have e5 : M1 310 i = P 310 i := hp rfl
      have fin : ∀ o, o = bst P dk kn (nI k) (i + 1) → Go d 96 103 [some (.ref 305), some (.int dk), some (.int kn), some (.int (nI k)), some (.int (oi o)), some (.int (nI i))] [] (mk L D C M1 R n s) _ := fun o ho => by
        subst ho
        refine go_t 31 rfl (ki _ _ ⟨?_, rfl⟩)
        rw [← nI_1]
      refine go_t 0 rfl ?_
      refine go_gM rfl rfl rfl rfl ?_
      refine go_bf rfl (by rw [e2]; exact nI_ge hi (by omega)) ?_
      refine go_t 0 rfl ?_
      refine go_gR rfl rfl rfl rfl ?_
      refine go_t 0 rfl ?_
      refine go_aldM rfl rfl rfl rfl rfl (by omega) (by decide) ?_
      rw [e3]
      refine go_t 0 rfl ?_
      refine go_br rfl (fun h48 => ?_) (fun h48 => ?_)
      · skip
        exact fin _ (by rw [bst, if_neg h48])
      replace h48 := Decidable.not_not.mp h48
      refine go_t 0 rfl ?_
      refine go_gR rfl rfl rfl rfl ?_
      refine go_t 0 rfl ?_
      refine go_aldM rfl rfl rfl rfl rfl (by omega) (by decide) ?_
      rw [e5]
      refine go_t 0 rfl ?_
      refine go_br rfl (fun h59 => ?_) (fun h59 => ?_)
      · skip
        exact fin _ (by rw [bst, if_pos h48, if_neg (Int32.not_le.mpr h59)])
      refine go_t 0 rfl ?_
      refine go_gR rfl rfl rfl rfl ?_
      refine go_t 0 rfl ?_
      refine go_aldM rfl rfl rfl rfl rfl (by omega) (by decide) ?_
      rw [e4]
      refine go_t 0 rfl ?_
      refine go_br rfl (fun h70 => ?_) (fun h70 => ?_)
      rotate_left
      · skip
        refine go_t 103 rfl ?_
        exact fin _ (by rw [bst, if_pos h48, if_pos (Int32.not_lt.mp h59), if_neg h70])
      have h59 := Int32.not_lt.mp h59
      rcases hbs : bst P dk kn (nI k) i with _ | j
      · skip
        refine go_t 0 rfl ?_
        refine go_nx rfl ?_
        refine go_t 103 rfl ?_
        exact fin (some i) (by rw [bst, if_pos h48, if_pos h59, if_pos h70, hbs])
      · have hj := bst_lt hbs
        have e6 : M1 307 j = P 307 j := hp rfl
        refine go_t 0 rfl ?_
        refine go_bf rfl (by exact (nI_m1 (by omega))) ?_
        refine go_t 0 rfl ?_
        refine go_gR rfl rfl rfl rfl ?_
        refine go_t 0 rfl ?_
        refine go_aldM rfl rfl rfl rfl rfl (by omega) (by decide) ?_
        rw [e4]
        refine go_t 0 rfl ?_
        refine go_gR rfl rfl rfl rfl ?_
        refine go_t 0 rfl ?_
        refine go_aldM (k := j) rfl rfl rfl rfl rfl (by omega) (by decide) ?_
        rw [e6]
        refine go_br rfl (fun h96 => ?_) (fun h96 => ?_)
        · skip
          exact fin (some j) (by rw [bst, if_pos h48, if_pos h59, if_pos h70, hbs]; dsimp only; rw [if_neg (Int32.not_le.mpr h96)])
        · skip
          refine go_t 103 rfl ?_
          exact fin (some i) (by rw [bst, if_pos h48, if_pos h59, if_pos h70, hbs]; dsimp only; rw [if_pos (Int32.not_lt.mp h96)])
    · rintro _ _ ⟨rfl, rfl⟩
      refine go_t 0 rfl ?_
      refine go_gM rfl rfl rfl rfl ?_
      refine go_bt rfl (by rw [e2]; exact Int32.le_refl _) ?_
      have nxt : ∀ x4 x5 M2, Fm wF M M2 → hsK P dk kn (k + 1) M2 → Go d 96 209 [some (.ref 305), some (.int dk), some (.int kn), some (.int (nI k)), x4, x5] [] (mk L D C M2 R n s) _ := fun x4 x5 M2 h1 h2 => by
        refine go_t 17 rfl (kk _ _ ⟨x4, x5, M2, ?_, rfl, h1, h2⟩)
        rw [← nI_1]
      obtain ⟨k1, k2, k3, k4⟩ := hK
      have hK : hsK P dk kn k M1 := ⟨k1, k2, k3, k4⟩
      rcases hbs : bst P dk kn (nI k) (sN P) with _ | i
      · have hb : blS P dk kn k = -1 := by rw [blS, hbs]
        refine go_t 0 rfl ?_
        refine go_gR rfl rfl rfl rfl ?_
        refine go_t 0 rfl ?_
        refine go_nx rfl ?_
        refine go_t 0 rfl ?_
        refine go_iastM (k := k) rfl rfl rfl rfl (by omega) (by decide) ?_
        refine go_t 0 rfl ?_
        refine go_gR rfl rfl rfl rfl ?_
        refine go_t 0 rfl ?_
        refine go_gR rfl rfl rfl rfl ?_
        refine go_t 0 rfl ?_
        refine go_aldM (k := k) rfl rfl rfl rfl rfl (by omega) (by decide) ?_
        rw [wrs]
        refine go_t 0 rfl ?_
        refine go_nx rfl ?_
        refine go_t 0 rfl ?_
        refine go_iastM (k := k) rfl rfl rfl rfl (by omega) (by decide) ?_
        refine go_t 0 rfl ?_
        refine go_gR rfl rfl rfl rfl ?_
        refine go_t 0 rfl ?_
        refine go_aldM (k := k) rfl rfl rfl rfl rfl (by omega) (by decide) ?_
        rw [wr_ne (by decide), wrs]
        refine go_t 0 rfl ?_
        refine go_nx rfl ?_
        refine go_t 209 rfl ?_
        exact nxt _ _ _ ((hF.wr rfl).wr rfl) (hsK_no hK hb)
      · have hi := bst_lt hbs
        have e7 : M1 309 i = P 309 i := hp rfl
        have e8 : M1 308 i = P 308 i := hp rfl
        have hbl : blS P dk kn k = P 309 i := by rw [blS, hbs]
        refine go_t 0 rfl ?_
        refine go_gR rfl rfl rfl rfl ?_
        refine go_t 0 rfl ?_
        refine go_bt rfl (by exact (nI_m1 (by omega))) ?_
        refine go_t 0 rfl ?_
        refine go_gR rfl rfl rfl rfl ?_
        refine go_t 0 rfl ?_
        refine go_aldM (k := i) rfl rfl rfl rfl rfl (by omega) (by decide) ?_
        rw [e7]
        refine go_iastM (k := k) rfl rfl rfl rfl (by omega) (by decide) ?_
        refine go_t 0 rfl ?_
        refine go_gR rfl rfl rfl rfl ?_
        refine go_t 0 rfl ?_
        refine go_gR rfl rfl rfl rfl ?_
        refine go_t 0 rfl ?_
        refine go_aldM (k := k) rfl rfl rfl rfl rfl (by omega) (by decide) ?_
        rw [wrs]
        refine go_t 0 rfl ?_
        refine go_br rfl (fun h144 => ?_) (fun h144 => ?_)
        · skip
          refine go_t 0 rfl ?_
          refine go_gR rfl rfl rfl rfl ?_
          refine go_t 0 rfl ?_
          refine go_aldM (k := i) rfl rfl rfl rfl rfl (by omega) (by decide) ?_
          rw [wr_ne (by decide), e8]
          refine go_iastM (k := k) rfl rfl rfl rfl (by omega) (by decide) ?_
          refine go_t 0 rfl ?_
          refine go_gR rfl rfl rfl rfl ?_
          refine go_t 0 rfl ?_
          refine go_aldM (k := k) rfl rfl rfl rfl rfl (by omega) (by decide) ?_
          rw [wr_ne (by decide), wrs]
          refine go_t 0 rfl ?_
          refine go_br rfl (fun h166 => ?_) (fun h166 => ?_)
          · skip
            refine go_t 0 rfl ?_
            refine go_gM rfl rfl rfl rfl ?_
            rw [wr_ne (by decide), wr_ne (by decide), k1]
            refine go_t 0 rfl ?_
            dsimp only
            refine go_pM rfl rfl rfl rfl ?_
            refine go_t 0 rfl ?_
            refine go_gM rfl rfl rfl rfl ?_
            rw [wrk (by decide), wr_ne (by decide), wr_ne (by decide), k2]
            refine go_t 0 rfl ?_
            dsimp only
            refine go_pM rfl rfl rfl rfl ?_
            refine go_t 0 rfl ?_
            refine go_gM rfl rfl rfl rfl ?_
            rw [wrk (by decide), wrk (by decide), wr_ne (by decide), wr_ne (by decide), k3]
            refine go_t 0 rfl ?_
            refine go_gR rfl rfl rfl rfl ?_
            refine go_t 0 rfl ?_
            refine go_aldM (k := k) rfl rfl rfl rfl rfl (by omega) (by decide) ?_
            rw [wr_ne (by decide), wr_ne (by decide), wrs]
            refine go_t 0 rfl ?_
            dsimp only
            refine go_pM rfl rfl rfl rfl ?_
            exact nxt _ _ _ (((((hF.wr rfl).wr rfl).wr rfl).wr rfl).wr rfl) (hsK_yes hK (by omega) hbs h144)
          · skip
            replace h166 := Decidable.not_not.mp h166
            refine go_t 209 rfl ?_
            exact absurd h166 h144
        · skip
          replace h144 := Decidable.not_not.mp h144
          refine go_t 0 rfl ?_
          refine go_iastM (k := k) rfl rfl rfl rfl (by omega) (by decide) ?_
          refine go_t 0 rfl ?_
          refine go_gR rfl rfl rfl rfl ?_
          refine go_t 0 rfl ?_
          refine go_aldM (k := k) rfl rfl rfl rfl rfl (by omega) (by decide) ?_
          rw [wr_ne (by decide), wrs]
          refine go_t 0 rfl ?_
          refine go_br rfl (fun h166 => ?_) (fun h166 => ?_)
          · skip
            refine go_t 0 rfl ?_
            refine go_gM rfl rfl rfl rfl ?_
            rw [wr_ne (by decide), wr_ne (by decide), k1]
            refine go_t 0 rfl ?_
            dsimp only
            refine go_pM rfl rfl rfl rfl ?_
            refine go_t 0 rfl ?_
            refine go_gM rfl rfl rfl rfl ?_
            rw [wrk (by decide), wr_ne (by decide), wr_ne (by decide), k2]
            refine go_t 0 rfl ?_
            dsimp only
            refine go_pM rfl rfl rfl rfl ?_
            refine go_t 0 rfl ?_
            refine go_gM rfl rfl rfl rfl ?_
            rw [wrk (by decide), wrk (by decide), wr_ne (by decide), wr_ne (by decide), k3]
            refine go_t 0 rfl ?_
            refine go_gR rfl rfl rfl rfl ?_
            refine go_t 0 rfl ?_
            refine go_aldM (k := k) rfl rfl rfl rfl rfl (by omega) (by decide) ?_
            rw [wr_ne (by decide), wr_ne (by decide), wrs]
            refine go_t 0 rfl ?_
            dsimp only
            refine go_pM rfl rfl rfl rfl ?_
            exact absurd h144 h166
          · skip
            replace h166 := Decidable.not_not.mp h166
            refine go_t 209 rfl ?_
            exact nxt _ _ _ ((hF.wr rfl).wr rfl) (by rw [h144]; exact hsK_no hK (hbl.trans h144))
  · rintro _ _ ⟨x4, x5, M1, rfl, rfl, hF, hK⟩
    have e1 : M1 305 1 = nI (mN P) := (pr_rd ((hF.pr fun _ _ => wF_per).trans hP) rfl).trans v1
    refine go_t 0 rfl ?_
    refine go_gM rfl rfl rfl rfl ?_
    refine go_bt rfl (by rw [e1]; exact Int32.le_refl _) ?_
    refine go_ret rfl ?_
    exact ⟨rfl, M1, rfl, hF, hK⟩
theorem t95 (hP : pr M = P) (hV : VP1 P) : Ev (d + 1) 95 [.ref 305] (mk L D C M R n s) (Rt (fun v m' => v = none ∧ ∃ M', m' = mk L D C M' R n s ∧ Fm wF M M' ∧ HsM P (P 305 8) (P 305 9) M')) := by
  refine ev_in rfl ?_
  refine go_t 0 rfl ?_
  refine go_gM rfl rfl rfl rfl ?_
  rw [pr_rd hP (a := 305) (k := 8) rfl]
  refine go_t 0 rfl ?_
  refine go_gM rfl rfl rfl rfl ?_
  rw [pr_rd hP (a := 305) (k := 9) rfl]
  refine go_c rfl rfl (t96 hP hV _ _) (fun v9 m9 hq9 => ?_)
  obtain ⟨rfl, M1, rfl, hF, hH⟩ := hq9
  refine go_ret rfl ?_
  exact ⟨rfl, M1, rfl, hF, hH⟩
/-- heads of a set -/
theorem t130' {N S : Nat} {b : Int32} {bl : Nat → Int32} (hN : M 305 1 = nI N) (h10 : N ≤ 10) (hbl : ∀ m, m < N → M 314 m = bl m) (hS : S < 1024) : Ev (d + 1) 130 [.ref 305, .int (nI S), .int b] (mk L D C M R n s) (Rt (Is (some (.int (nI (hdN S b bl N)))) (mk L D C M R n s))) := by
  refine ev_in rfl ?_
  refine go_t 5 rfl ?_
  refine go_for N (fun k Lc m => Lc = [some (.ref 305), some (.int (nI S)), some (.int b), some (.int (nI (hdN S b bl k))), some (.int (nI k))] ∧ m = mk L D C M R n s) ⟨rfl, rfl⟩ ?_ ?_
  · rintro k _ _ hk ⟨rfl, rfl⟩ kk
    have fin : ∀ v, v = hdN S b bl (k + 1) → Go (d + 1) 130 44 [some (.ref 305), some (.int (nI S)), some (.int b), some (.int (nI v)), some (.int (nI k))] [] (mk L D C M R n s) _ := fun v hv => by
      subst hv
      refine go_t 5 rfl (kk _ _ ⟨?_, rfl⟩)
      rw [← nI_1]
    have e1 := hbl k hk
    refine go_t 0 rfl ?_
    refine go_gM rfl rfl rfl rfl ?_
    refine go_bf rfl (by rw [hN]; exact nI_ge hk (by omega)) ?_
    refine go_t 0 rfl ?_
    refine go_f rfl rfl (t97 _ _ _) ?_
    refine go_br rfl (fun h21 => ?_) (fun h21 => ?_)
    · skip
      replace h21 := bI_0.mp h21
      exact fin _ (by rw [hdN, if_neg (fun q => h21 ((bitI_1 (by omega) (by omega)).mpr q.1))])
    · skip
      replace h21 := bI_n0.mp h21
      refine go_t 0 rfl ?_
      refine go_br rfl (fun h26 => ?_) (fun h26 => ?_)
      · skip
        refine go_t 44 rfl ?_
        dsimp only
        rw [nI_1]
        exact fin _ (by rw [hdN, if_pos ⟨(bitI_1 (by omega) (by omega)).mp h21, Or.inl h26⟩])
      · skip
        refine go_t 0 rfl ?_
        refine go_gR rfl rfl rfl rfl ?_
        refine go_t 0 rfl ?_
        refine go_aldM rfl rfl rfl rfl rfl (by omega) (by decide) ?_
        rw [e1]
        refine go_t 0 rfl ?_
        refine go_br rfl (fun h37 => ?_) (fun h37 => ?_)
        · skip
          exact fin _ (by rw [hdN, if_neg (fun q => q.2.elim h26 h37)])
        · skip
          replace h37 := Decidable.not_not.mp h37
          refine go_t 44 rfl ?_
          dsimp only
          rw [nI_1]
          exact fin _ (by rw [hdN, if_pos ⟨(bitI_1 (by omega) (by omega)).mp h21, Or.inr h37⟩])
  · rintro _ _ ⟨rfl, rfl⟩
    refine go_t 0 rfl ?_
    refine go_gM rfl rfl rfl rfl ?_
    refine go_bt rfl (by rw [hN]; exact Int32.le_refl _) ?_
    refine go_t 0 rfl ?_
    refine go_ret rfl ?_
    exact ⟨rfl, rfl⟩
theorem t131 {N S : Nat} {b : Int32} {bl wt : Nat → Int32} (hN : M 305 1 = nI N) (h10 : N ≤ 10) (hbl : ∀ m, m < N → M 314 m = bl m ∧ M 313 m = wt m) (hS : S < 1024) : Ev (d + 1) 131 [.ref 305, .int (nI S), .int b] (mk L D C M R n s) (Rt (Is (some (.int (wgI S b bl wt N))) (mk L D C M R n s))) := by
  refine ev_in rfl ?_
  refine go_t 5 rfl ?_
  refine go_for N (fun k Lc m => Lc = [some (.ref 305), some (.int (nI S)), some (.int b), some (.int (wgI S b bl wt k)), some (.int (nI k))] ∧ m = mk L D C M R n s) ⟨rfl, rfl⟩ ?_ ?_
  · rintro k _ _ hk ⟨rfl, rfl⟩ kk
    have fin : ∀ v, v = wgI S b bl wt (k + 1) → Go (d + 1) 131 50 [some (.ref 305), some (.int (nI S)), some (.int b), some (.int v), some (.int (nI k))] [] (mk L D C M R n s) _ := fun v hv => by
      subst hv
      refine go_t 5 rfl (kk _ _ ⟨?_, rfl⟩)
      rw [← nI_1]
    obtain ⟨e1, e2⟩ := hbl k hk
    refine go_t 0 rfl ?_
    refine go_gM rfl rfl rfl rfl ?_
    refine go_bf rfl (by rw [hN]; exact nI_ge hk (by omega)) ?_
    refine go_t 0 rfl ?_
    refine go_f rfl rfl (t97 _ _ _) ?_
    refine go_br rfl (fun h21 => ?_) (fun h21 => ?_)
    · skip
      replace h21 := bI_0.mp h21
      exact fin _ (by rw [wgI, if_neg (fun q => h21 ((bitI_1 (by omega) (by omega)).mpr q.1))])
    · skip
      replace h21 := bI_n0.mp h21
      refine go_t 0 rfl ?_
      refine go_br rfl (fun h26 => ?_) (fun h26 => ?_)
      · skip
        refine go_t 0 rfl ?_
        refine go_gR rfl rfl rfl rfl ?_
        refine go_t 0 rfl ?_
        refine go_aldM rfl rfl rfl rfl rfl (by omega) (by decide) ?_
        rw [e2]
        refine go_t 50 rfl ?_
        dsimp only
        exact fin _ (by rw [wgI, if_pos ⟨(bitI_1 (by omega) (by omega)).mp h21, Or.inl h26⟩])
      · skip
        refine go_t 0 rfl ?_
        refine go_gR rfl rfl rfl rfl ?_
        refine go_t 0 rfl ?_
        refine go_aldM rfl rfl rfl rfl rfl (by omega) (by decide) ?_
        rw [e1]
        refine go_t 0 rfl ?_
        refine go_br rfl (fun h37 => ?_) (fun h37 => ?_)
        · skip
          exact fin _ (by rw [wgI, if_neg (fun q => q.2.elim h26 h37)])
        · skip
          replace h37 := Decidable.not_not.mp h37
          refine go_t 0 rfl ?_
          refine go_gR rfl rfl rfl rfl ?_
          refine go_t 0 rfl ?_
          refine go_aldM rfl rfl rfl rfl rfl (by omega) (by decide) ?_
          rw [e2]
          refine go_t 50 rfl ?_
          dsimp only
          exact fin _ (by rw [wgI, if_pos ⟨(bitI_1 (by omega) (by omega)).mp h21, Or.inr h37⟩])
  · rintro _ _ ⟨rfl, rfl⟩
    refine go_t 0 rfl ?_
    refine go_gM rfl rfl rfl rfl ?_
    refine go_bt rfl (by rw [hN]; exact Int32.le_refl _) ?_
    refine go_t 0 rfl ?_
    refine go_ret rfl ?_
    exact ⟨rfl, rfl⟩
/-- what a leaf of a rule's code comes to -/
def lfS (P : Nat → Nat → Int32) (dk kn : Int32) (S : Nat) (o v : Int32) : Int32 :=
  if o = 0 then v
  else if o = 1 then (if v = 0 then nI (hdN S (-1) (blS P dk kn) (mN P)) else if v = 1 then wgI S (-1) (blS P dk kn) (wtS P dk kn) (mN P) else if v = 2 then nI (myN P dk kn (mN P)) else alI P dk kn (mN P))
  else if o = 3 then bI (bitI (nI S) v = 1)
  else if v < 6 then nI (hdN S v (blS P dk kn) (mN P)) else wgI S (v - 6) (blS P dk kn) (wtS P dk kn) (mN P)
def twS (o x y : Int32) : Int32 :=
  if o = 4 then x + y else if o = 5 then x - y else if o = 6 then x * y else if o = 7 then bI (x < y) else if o = 8 then bI (x = y) else if o = 9 then bI (y < x) else if o = 11 then x * y else bI (0 < x + y)
theorem t129 {S : Nat} {dk kn v : Int32} (hN : M 305 1 = nI (mN P)) (h10 : mN P ≤ 10) (hH : HsM P dk kn M) (hS : S < 1024) : Ev (d + 2) 129 [.ref 305, .int v, .int (nI S)] (mk L D C M R n s) (Rt (Is (some (.int (lfS P dk kn S 1 v))) (mk L D C M R n s))) := by
  obtain ⟨k1, k2, k3, k4⟩ := hH
  have e : lfS P dk kn S 1 v = (if v = 0 then nI (hdN S (-1) (blS P dk kn) (mN P)) else if v = 1 then wgI S (-1) (blS P dk kn) (wtS P dk kn) (mN P) else if v = 2 then nI (myN P dk kn (mN P)) else alI P dk kn (mN P)) := by
    unfold lfS
    rw [if_neg (by decide), if_pos rfl]
  refine ev_in rfl ?_
  refine go_t 0 rfl ?_
  refine go_br rfl (fun h1 => ?_) (fun h1 => ?_)
  · skip
    refine go_t 0 rfl ?_
    refine go_br rfl (fun h13 => ?_) (fun h13 => ?_)
    · skip
      refine go_t 0 rfl ?_
      refine go_br rfl (fun h25 => ?_) (fun h25 => ?_)
      · skip
        refine go_t 0 rfl ?_
        refine go_gM rfl rfl rfl rfl ?_
        rw [k3]
        refine go_ret rfl ?_
        exact ⟨by rw [e, if_neg h1, if_neg h13, if_neg h25], rfl⟩
      · skip
        replace h25 := Decidable.not_not.mp h25
        refine go_t 0 rfl ?_
        refine go_gM rfl rfl rfl rfl ?_
        rw [k2]
        refine go_t 0 rfl ?_
        refine go_ret rfl ?_
        exact ⟨by rw [e, if_neg h1, if_neg h13, if_pos h25], rfl⟩
    · skip
      replace h13 := Decidable.not_not.mp h13
      refine go_t 0 rfl ?_
      refine go_f rfl rfl (t131 hN h10 k4 hS) ?_
      refine go_ret rfl ?_
      exact ⟨by rw [e, if_neg h1, if_pos h13], rfl⟩
  · skip
    replace h1 := Decidable.not_not.mp h1
    refine go_t 0 rfl ?_
    refine go_f rfl rfl (t130' hN h10 (fun m h => (k4 m h).1) hS) ?_
    refine go_ret rfl ?_
    exact ⟨by rw [e, if_pos h1], rfl⟩
theorem t132 (a : Nat) (o x y : Int32) : Ev d 132 [.ref a, .int o, .int x, .int y] m (Rt (Is (some (.int (twS o x y))) m)) := by
  refine ev_in rfl ?_
  refine go_t 0 rfl ?_
  refine go_br rfl (fun h2 => ?_) (fun h2 => ?_)
  · skip
    refine go_t 0 rfl ?_
    refine go_br rfl (fun h11 => ?_) (fun h11 => ?_)
    · skip
      refine go_t 0 rfl ?_
      refine go_br rfl (fun h21 => ?_) (fun h21 => ?_)
      · skip
        refine go_t 0 rfl ?_
        refine go_br rfl (fun h31 => ?_) (fun h31 => ?_)
        · skip
          refine go_t 0 rfl ?_
          refine go_br rfl (fun h48 => ?_) (fun h48 => ?_)
          · skip
            refine go_t 0 rfl ?_
            refine go_br rfl (fun h65 => ?_) (fun h65 => ?_)
            · skip
              refine go_t 0 rfl ?_
              refine go_br rfl (fun h82 => ?_) (fun h82 => ?_)
              · skip
                refine go_t 0 rfl ?_
                dsimp only
                refine go_br rfl (fun h94 => ?_) (fun h94 => ?_)
                · skip
                  refine go_t 0 rfl ?_
                  refine go_ret rfl ?_
                  exact ⟨by rw [twS, if_neg h2, if_neg h11, if_neg h21, if_neg h31, if_neg h48, if_neg h65, if_neg h82, bI_f (Int32.not_lt.mpr h94)], rfl⟩
                · skip
                  refine go_t 0 rfl ?_
                  refine go_ret rfl ?_
                  exact ⟨by rw [twS, if_neg h2, if_neg h11, if_neg h21, if_neg h31, if_neg h48, if_neg h65, if_neg h82, bI_t (Int32.not_le.mp h94)], rfl⟩
              · skip
                replace h82 := Decidable.not_not.mp h82
                refine go_t 0 rfl ?_
                dsimp only
                refine go_ret rfl ?_
                exact ⟨by rw [twS, if_neg h2, if_neg h11, if_neg h21, if_neg h31, if_neg h48, if_neg h65, if_pos h82], rfl⟩
            · skip
              replace h65 := Decidable.not_not.mp h65
              refine go_t 0 rfl ?_
              refine go_br rfl (fun h70 => ?_) (fun h70 => ?_)
              · skip
                refine go_t 0 rfl ?_
                refine go_ret rfl ?_
                exact ⟨by rw [twS, if_neg h2, if_neg h11, if_neg h21, if_neg h31, if_neg h48, if_pos h65, bI_f (Int32.not_lt.mpr h70)], rfl⟩
              · skip
                refine go_t 0 rfl ?_
                refine go_ret rfl ?_
                exact ⟨by rw [twS, if_neg h2, if_neg h11, if_neg h21, if_neg h31, if_neg h48, if_pos h65, bI_t (Int32.not_le.mp h70)], rfl⟩
          · skip
            replace h48 := Decidable.not_not.mp h48
            refine go_t 0 rfl ?_
            refine go_br rfl (fun h53 => ?_) (fun h53 => ?_)
            · skip
              refine go_t 0 rfl ?_
              refine go_ret rfl ?_
              exact ⟨by rw [twS, if_neg h2, if_neg h11, if_neg h21, if_neg h31, if_pos h48, bI_f h53], rfl⟩
            · skip
              replace h53 := Decidable.not_not.mp h53
              refine go_t 0 rfl ?_
              refine go_ret rfl ?_
              exact ⟨by rw [twS, if_neg h2, if_neg h11, if_neg h21, if_neg h31, if_pos h48, bI_t h53], rfl⟩
        · skip
          replace h31 := Decidable.not_not.mp h31
          refine go_t 0 rfl ?_
          refine go_br rfl (fun h36 => ?_) (fun h36 => ?_)
          · skip
            refine go_t 0 rfl ?_
            refine go_ret rfl ?_
            exact ⟨by rw [twS, if_neg h2, if_neg h11, if_neg h21, if_pos h31, bI_f (Int32.not_lt.mpr h36)], rfl⟩
          · skip
            refine go_t 0 rfl ?_
            refine go_ret rfl ?_
            exact ⟨by rw [twS, if_neg h2, if_neg h11, if_neg h21, if_pos h31, bI_t (Int32.not_le.mp h36)], rfl⟩
      · skip
        replace h21 := Decidable.not_not.mp h21
        refine go_t 0 rfl ?_
        dsimp only
        refine go_ret rfl ?_
        exact ⟨by rw [twS, if_neg h2, if_neg h11, if_pos h21], rfl⟩
    · skip
      replace h11 := Decidable.not_not.mp h11
      refine go_t 0 rfl ?_
      dsimp only
      refine go_ret rfl ?_
      exact ⟨by rw [twS, if_neg h2, if_pos h11], rfl⟩
  · skip
    replace h2 := Decidable.not_not.mp h2
    refine go_t 0 rfl ?_
    dsimp only
    refine go_ret rfl ?_
    exact ⟨by rw [twS, if_pos h2], rfl⟩
theorem t128 {S k : Nat} {dk kn : Int32} (hN : M 305 1 = nI (mN P)) (h10 : mN P ≤ 10) (hH : HsM P dk kn M) (hS : S < 1024) (hk : k < 2500) : Ev (d + 3) 128 [.ref 305, .int (nI k), .int (nI S)] (mk L D C M R n s) (Rt (Is (some (.int (lfS P dk kn S (M 318 k) (M 319 k)))) (mk L D C M R n s))) := by
  refine ev_in rfl ?_
  have k4 := hH.2.2.2
  refine go_t 0 rfl ?_
  refine go_gR rfl rfl rfl rfl ?_
  refine go_t 0 rfl ?_
  refine go_aldM rfl rfl rfl rfl rfl (by omega) (by decide) ?_
  refine go_t 0 rfl ?_
  refine go_gR rfl rfl rfl rfl ?_
  refine go_t 0 rfl ?_
  refine go_aldM rfl rfl rfl rfl rfl (by omega) (by decide) ?_
  refine go_br rfl (fun h13 => ?_) (fun h13 => ?_)
  · skip
    refine go_t 0 rfl ?_
    refine go_gR rfl rfl rfl rfl ?_
    refine go_t 0 rfl ?_
    refine go_aldM rfl rfl rfl rfl rfl (by omega) (by decide) ?_
    refine go_t 0 rfl ?_
    refine go_br rfl (fun h25 => ?_) (fun h25 => ?_)
    · skip
      refine go_t 0 rfl ?_
      refine go_gR rfl rfl rfl rfl ?_
      refine go_t 0 rfl ?_
      refine go_aldM rfl rfl rfl rfl rfl (by omega) (by decide) ?_
      refine go_t 0 rfl ?_
      refine go_br rfl (fun h42 => ?_) (fun h42 => ?_)
      · skip
        refine go_t 0 rfl ?_
        refine go_br rfl (fun h63 => ?_) (fun h63 => ?_)
        · skip
          refine go_t 0 rfl ?_
          dsimp only
          refine go_f rfl rfl (t131 hN h10 k4 hS) ?_
          refine go_ret rfl ?_
          exact ⟨by rw [lfS, if_neg h13, if_neg h25, if_neg h42, if_neg (Int32.not_lt.mpr h63)], rfl⟩
        · skip
          refine go_t 0 rfl ?_
          refine go_f rfl rfl (t130' hN h10 (fun m h => (k4 m h).1) hS) ?_
          refine go_t 0 rfl ?_
          refine go_ret rfl ?_
          exact ⟨by rw [lfS, if_neg h13, if_neg h25, if_neg h42, if_pos (Int32.not_le.mp h63)], rfl⟩
      · skip
        replace h42 := Decidable.not_not.mp h42
        refine go_t 0 rfl ?_
        refine go_f rfl rfl (t97 _ _ _) ?_
        refine go_br rfl (fun h51 => ?_) (fun h51 => ?_)
        · skip
          replace h51 := bI_0.mp h51
          refine go_t 0 rfl ?_
          refine go_ret rfl ?_
          exact ⟨by rw [lfS, if_neg h13, if_neg h25, if_pos h42, bI_f h51], rfl⟩
        · skip
          replace h51 := bI_n0.mp h51
          refine go_t 0 rfl ?_
          refine go_ret rfl ?_
          exact ⟨by rw [lfS, if_neg h13, if_neg h25, if_pos h42, bI_t h51], rfl⟩
    · skip
      replace h25 := Decidable.not_not.mp h25
      refine go_t 0 rfl ?_
      refine go_f rfl rfl (t129 hN h10 hH hS) ?_
      refine go_ret rfl ?_
      exact ⟨by rw [h25], rfl⟩
  · skip
    replace h13 := Decidable.not_not.mp h13
    refine go_t 0 rfl ?_
    refine go_ret rfl ?_
    exact ⟨by rw [lfS, if_pos h13], rfl⟩
/-! a rule's code, run on a stack -/
def stp (lf : Int32 → Int32 → Int32) (o v : Int32) (st : List Int32) : List Int32 :=
  if o ≤ 3 then lf o v :: st else if o = 10 then (match st with
    | x :: t => (1 - x) :: t
    | [] => []) else (match st with
    | y :: x :: t => twS o x y :: t
    | _ => [])
theorem stp_l {lf : Int32 → Int32 → Int32} {o v : Int32} {st : List Int32} (h : o ≤ 3) : stp lf o v st = lf o v :: st := by unfold stp; exact if_pos h
theorem stp_n {lf : Int32 → Int32 → Int32} {o v x : Int32} {t : List Int32} (h : ¬ o ≤ 3) (h2 : o = 10) : stp lf o v (x :: t) = (1 - x) :: t := by unfold stp; rw [if_neg h, if_pos h2]
theorem stp_2 {lf : Int32 → Int32 → Int32} {o v x y : Int32} {t : List Int32} (h : ¬ o ≤ 3) (h2 : ¬ o = 10) : stp lf o v (y :: x :: t) = twS o x y :: t := by unfold stp; rw [if_neg h, if_neg h2]
def stK (lf : Int32 → Int32 → Int32) (op ar : Nat → Int32) : Nat → List Int32
  | 0 => []
  | k + 1 => stp lf (op k) (ar k) (stK lf op ar k)
def dpK (op : Nat → Int32) : Nat → Nat
  | 0 => 0
  | k + 1 => if op k ≤ 3 then dpK op k + 1 else if op k = 10 then dpK op k else dpK op k - 1
/-- at each instruction the stack is deep enough and has room; in the end one is left -/
def okK (op : Nat → Int32) (n : Nat) : Prop := (∀ k, k < n → (op k ≤ 3 → dpK op k < 60) ∧ (¬ op k ≤ 3 → op k = 10 → 1 ≤ dpK op k) ∧ (¬ op k ≤ 3 → ¬ op k = 10 → 2 ≤ dpK op k)) ∧ dpK op n = 1
theorem okK_le {op : Nat → Int32} {n : Nat} (h : okK op n) : ∀ k, k ≤ n → dpK op k ≤ 60 := by
  intro k
  induction k with
  | zero => intro _; exact Nat.zero_le _
  | succ k ih =>
    intro hk
    have ih := ih (by omega)
    obtain ⟨h1, h2, h3⟩ := h.1 k (by omega)
    rw [dpK]
    split
    · rename_i a; have := h1 a; omega
    · split <;> omega
theorem stK_len {lf : Int32 → Int32 → Int32} {op ar : Nat → Int32} {n : Nat} (h : okK op n) : ∀ k, k ≤ n → (stK lf op ar k).length = dpK op k := by
  intro k
  induction k with
  | zero => intro _; rfl
  | succ k ih =>
    intro hk
    have ih := ih (by omega)
    obtain ⟨h1, h2, h3⟩ := h.1 k (by omega)
    rw [stK, dpK]
    unfold stp
    split
    · rw [List.length_cons, ih]
    · rename_i a1
      split
      · rename_i a2
        have := h2 a1 a2
        rcases hs : stK lf op ar k with _ | ⟨x, t⟩
        · rw [hs] at ih; simp at ih; omega
        · rw [hs] at ih; simpa using ih
      · rename_i a2
        have := h3 a1 a2
        rcases hs : stK lf op ar k with _ | ⟨y, _ | ⟨x, t⟩⟩
        · rw [hs] at ih; simp at ih; omega
        · rw [hs] at ih; simp at ih; omega
        · rw [hs] at ih; simp at ih ⊢; omega
def stkR (f : Nat → Int32) : List Int32 → Prop
  | [] => True
  | x :: t => f t.length = x ∧ stkR f t
theorem stkR_fu {f : Nat → Int32} {k : Nat} {v : Int32} : ∀ {st : List Int32}, stkR f st → st.length ≤ k → stkR (fu f k v) st := by
  intro st
  induction st with
  | nil => intro _ _; exact trivial
  | cons x t ih =>
    intro h hk
    simp at hk
    exact ⟨by rw [fu_ne (by omega)]; exact h.1, ih h.2 (by omega)⟩
def cmy (P : Nat → Nat → Int32) (r : Nat) : Nat := (P 317 r).toNatClampNeg
def opS (P : Nat → Nat → Int32) (r k : Nat) : Int32 := P 318 (500 * r + k)
def arS (P : Nat → Nat → Int32) (r k : Nat) : Int32 := P 319 (500 * r + k)
/-- a rule's answer to a set -/
def vaS (P : Nat → Nat → Int32) (dk kn : Int32) (r S : Nat) : Int32 := (stK (lfS P dk kn S) (opS P r) (arS P r) (cmy P r)).headD 0
abbrev carP (P : Nat → Nat → Int32) (dk kn : Int32) (r S : Nat) : Prop := ¬ cmy P r = 0 ∧ ¬ vaS P dk kn r S = 0
def VP2 (P : Nat → Nat → Int32) : Prop := ∀ r, r < 4 → P 317 r = nI (cmy P r) ∧ cmy P r ≤ 500 ∧ (cmy P r = 0 ∨ okK (opS P r) (cmy P r))
theorem t127 {r S : Nat} {dk kn : Int32} (hP : pr M = P) (hV : VP1 P) (hV2 : VP2 P) (hH : HsM P dk kn M) (hr : r < 4) (hS : S < 1024) : Ev (d + 4) 127 [.ref 305, .int (nI r), .int (nI S)] (mk L D C M R n s) (Rt (fun v m' => v = some (.int (bI (carP P dk kn r S))) ∧ ∃ f, m' = mk L D C (fu M 321 f) R n s)) := by
  obtain ⟨v1, v2, v3, v4⟩ := hV
  obtain ⟨w1, w2, w3⟩ := hV2 r hr
  have hc : M 317 r = nI (cmy P r) := (pr_rd hP rfl).trans w1
  refine ev_in rfl ?_
  refine go_t 0 rfl ?_
  refine go_gR rfl rfl rfl rfl ?_
  refine go_t 0 rfl ?_
  refine go_aldM rfl rfl rfl rfl rfl (by omega) (by decide) ?_
  rw [hc]
  refine go_br rfl (fun h6 => ?_) (fun h6 => ?_)
  rotate_left
  · skip
    replace h6 := Decidable.not_not.mp h6
    refine go_t 0 rfl ?_
    refine go_ret rfl ?_
    exact ⟨by rw [bI_f (fun q => q.1 ((nI_eq (by omega) (by decide)).mp h6))], M 321, by rw [fu_id]⟩
  refine go_t 20 rfl ?_
  dsimp only
  have h0 : ¬ cmy P r = 0 := fun q => h6 (by rw [q]; rfl)
  have w3 := w3.resolve_left h0
  have e500 : (500 : Int32) * nI r = nI (500 * r) := pk_mul 500 r
  rw [e500]
  have hlen : ∀ k, k ≤ cmy P r → (stK (lfS P dk kn S) (opS P r) (arS P r) k).length = dpK (opS P r) k := stK_len w3
  refine go_for (cmy P r) (fun k Lc m => ∃ f, Lc = [some (.ref 305), some (.int (nI r)), some (.int (nI S)), some (.int (nI (dpK (opS P r) k))), some (.int (nI (500 * r + k)))] ∧ m = mk L D C (fu M 321 f) R n s ∧ stkR f (stK (lfS P dk kn S) (opS P r) (arS P r) k)) ⟨M 321, rfl, by rw [fu_id], trivial⟩ ?_ ?_
  · rintro k _ _ hk ⟨f, rfl, rfl, hst⟩ kk
    obtain ⟨a1, a2, a3⟩ := w3.1 k hk
    have hl := hlen k (by omega)
    have hl2 := okK_le w3 k (by omega)
    have v1' : fu M 321 f 305 1 = nI (mN P) := (pr_rd hP (a := 305) (k := 1) rfl).trans v1
    have hc' : fu M 321 f 317 r = nI (cmy P r) := hc
    have ho : fu M 321 f 318 (500 * r + k) = opS P r k := pr_rd hP (by
      have : Nat.ble (500 * r + k) 1999 = true := nblt (by omega)
      simp [per, this])
    have ha : fu M 321 f 319 (500 * r + k) = arS P r k := pr_rd hP (by
      have : Nat.ble (500 * r + k) 1999 = true := nblt (by omega)
      simp [per, this])
    have fin : ∀ f' q, q = dpK (opS P r) (k + 1) → stkR f' (stK (lfS P dk kn S) (opS P r) (arS P r) (k + 1)) → Go (d + 4) 127 138 [some (.ref 305), some (.int (nI r)), some (.int (nI S)), some (.int (nI q)), some (.int (nI (500 * r + k)))] [] (mk L D C (fu M 321 f') R n s) _ := fun f' q hq h => by
      subst hq
      refine go_t 20 rfl (kk _ _ ⟨f', ?_, rfl, h⟩)
      rw [← Nat.add_assoc, ← nI_1]
    by_cases h3 : opS P r k ≤ 3
    · have b1 := a1 h3
      refine go_t 0 rfl ?_
      dsimp only
      refine go_gR rfl rfl rfl rfl ?_
      refine go_t 0 rfl ?_
      refine go_aldM rfl rfl rfl rfl rfl (by omega) (by decide) ?_
      rw [hc', e500]
      refine go_t 0 rfl ?_
      dsimp only
      refine go_bf rfl (by rw [nI_add]; exact nI_ge (by omega) (by omega)) ?_
      refine go_t 0 rfl ?_
      refine go_gR rfl rfl rfl rfl ?_
      refine go_t 0 rfl ?_
      refine go_aldM rfl rfl rfl rfl rfl (by omega) (by decide) ?_
      rw [ho]
      refine go_t 0 rfl ?_
      refine go_bf rfl (by exact (Int32.not_lt.mpr h3)) ?_
      refine go_t 0 rfl ?_
      refine go_gR rfl rfl rfl rfl ?_
      refine go_t 0 rfl ?_
      refine go_f rfl rfl (t128 v1' v2 (hH.fu (by decide) (by decide) (by decide)) hS (by omega)) ?_
      rw [ho, ha]
      refine go_iastM (k := dpK (opS P r) k) rfl rfl rfl rfl (by omega) (by decide) ?_
      rw [wr_fuS]
      refine go_t 138 rfl ?_
      dsimp only
      rw [nI_1]
      refine fin _ _ (by rw [dpK, if_pos h3]) ?_
      rw [stK, stp_l h3]
      exact ⟨by rw [hl, fu_self], stkR_fu hst (by omega)⟩
    · by_cases h10 : opS P r k = 10
      · have b1 := a2 h3 h10
        rcases hs : stK (lfS P dk kn S) (opS P r) (arS P r) k with _ | ⟨x, t⟩
        · rw [hs] at hl; simp at hl; omega
        · rw [hs] at hl hst
          have hl' : dpK (opS P r) k = t.length + 1 := by simpa using hl.symm
          have e1 : nI (dpK (opS P r) k) - 1 = nI t.length := by rw [hl', ← nI_1]; exact Int32.add_sub_cancel _ _
          refine go_t 0 rfl ?_
          dsimp only
          refine go_gR rfl rfl rfl rfl ?_
          refine go_t 0 rfl ?_
          refine go_aldM rfl rfl rfl rfl rfl (by omega) (by decide) ?_
          rw [hc', e500]
          refine go_t 0 rfl ?_
          dsimp only
          refine go_bf rfl (by rw [nI_add]; exact nI_ge (by omega) (by omega)) ?_
          refine go_t 0 rfl ?_
          refine go_gR rfl rfl rfl rfl ?_
          refine go_t 0 rfl ?_
          refine go_aldM rfl rfl rfl rfl rfl (by omega) (by decide) ?_
          rw [ho]
          refine go_t 0 rfl ?_
          refine go_bt rfl (by exact (Int32.not_le.mp h3)) ?_
          refine go_t 0 rfl ?_
          refine go_gR rfl rfl rfl rfl ?_
          refine go_t 0 rfl ?_
          refine go_aldM rfl rfl rfl rfl rfl (by omega) (by decide) ?_
          rw [ho]
          refine go_t 0 rfl ?_
          refine go_bf rfl (by exact (fun q => q h10)) ?_
          refine go_t 0 rfl ?_
          refine go_gR rfl rfl rfl rfl ?_
          refine go_t 0 rfl ?_
          dsimp only
          refine go_gR rfl rfl rfl rfl ?_
          refine go_t 0 rfl ?_
          dsimp only
          refine go_aldM (k := t.length) rfl rfl rfl rfl e1 (by omega) (by decide) ?_
          rw [fu_self, hst.1]
          refine go_t 0 rfl ?_
          dsimp only
          refine go_iastM (k := t.length) rfl rfl rfl e1 (by omega) (by decide) ?_
          rw [wr_fuS]
          refine go_t 138 rfl ?_
          refine fin _ _ (by rw [dpK, if_neg h3, if_pos h10]) ?_
          rw [stK, hs, stp_n h3 h10]
          exact ⟨by rw [fu_self], stkR_fu hst.2 (Nat.le_refl _)⟩
      · have b1 := a3 h3 h10
        rcases hs : stK (lfS P dk kn S) (opS P r) (arS P r) k with _ | ⟨y, _ | ⟨x, t⟩⟩
        · rw [hs] at hl; simp at hl; omega
        · rw [hs] at hl; simp at hl; omega
        · rw [hs] at hl hst
          have hl' : dpK (opS P r) k = t.length + 1 + 1 := by simpa using hl.symm
          have e1 : nI (dpK (opS P r) k) - 1 = nI (t.length + 1) := by rw [hl', ← nI_1]; exact Int32.add_sub_cancel _ _
          have e2 : nI (t.length + 1) - 1 = nI t.length := by rw [← nI_1]; exact Int32.add_sub_cancel _ _
          refine go_t 0 rfl ?_
          dsimp only
          refine go_gR rfl rfl rfl rfl ?_
          refine go_t 0 rfl ?_
          refine go_aldM rfl rfl rfl rfl rfl (by omega) (by decide) ?_
          rw [hc', e500]
          refine go_t 0 rfl ?_
          dsimp only
          refine go_bf rfl (by rw [nI_add]; exact nI_ge (by omega) (by omega)) ?_
          refine go_t 0 rfl ?_
          refine go_gR rfl rfl rfl rfl ?_
          refine go_t 0 rfl ?_
          refine go_aldM rfl rfl rfl rfl rfl (by omega) (by decide) ?_
          rw [ho]
          refine go_t 0 rfl ?_
          refine go_bt rfl (by exact (Int32.not_le.mp h3)) ?_
          refine go_t 0 rfl ?_
          refine go_gR rfl rfl rfl rfl ?_
          refine go_t 0 rfl ?_
          refine go_aldM rfl rfl rfl rfl rfl (by omega) (by decide) ?_
          rw [ho]
          refine go_t 0 rfl ?_
          refine go_bt rfl (by exact h10) ?_
          refine go_t 0 rfl ?_
          dsimp only
          refine go_gR rfl rfl rfl rfl ?_
          rw [e1]
          refine go_t 0 rfl ?_
          dsimp only
          refine go_gR rfl rfl rfl rfl ?_
          refine go_t 0 rfl ?_
          refine go_aldM rfl rfl rfl rfl rfl (by omega) (by decide) ?_
          rw [ho]
          refine go_t 0 rfl ?_
          refine go_gR rfl rfl rfl rfl ?_
          refine go_t 0 rfl ?_
          dsimp only
          refine go_aldM (k := t.length) rfl rfl rfl rfl e2 (by omega) (by decide) ?_
          rw [fu_self, hst.2.1]
          refine go_t 0 rfl ?_
          refine go_gR rfl rfl rfl rfl ?_
          refine go_t 0 rfl ?_
          refine go_aldM (k := t.length + 1) rfl rfl rfl rfl rfl (by omega) (by decide) ?_
          rw [fu_self, show f (t.length + 1) = y from hst.1]
          refine go_f rfl rfl (t132 _ _ _ _) ?_
          refine go_iastM (k := t.length) rfl rfl rfl e2 (by omega) (by decide) ?_
          rw [wr_fuS]
          refine fin _ _ (by rw [dpK, if_neg h3, if_neg h10, hl']; rfl) ?_
          rw [stK, hs, stp_2 h3 h10]
          exact ⟨by rw [fu_self], stkR_fu hst.2.2 (Nat.le_refl _)⟩
  · rintro _ _ ⟨f, rfl, rfl, hst⟩
    have hc' : fu M 321 f 317 r = nI (cmy P r) := hc
    have hl := hlen (cmy P r) (Nat.le_refl _)
    rw [w3.2] at hl
    rcases hs : stK (lfS P dk kn S) (opS P r) (arS P r) (cmy P r) with _ | ⟨x, _ | ⟨y, t⟩⟩
    · rw [hs] at hl; simp at hl
    · rw [hs] at hst
      have hx : vaS P dk kn r S = x := by rw [vaS, hs]; rfl
      refine go_t 0 rfl ?_
      dsimp only
      refine go_gR rfl rfl rfl rfl ?_
      refine go_t 0 rfl ?_
      refine go_aldM rfl rfl rfl rfl rfl (by omega) (by decide) ?_
      rw [hc', e500]
      refine go_t 0 rfl ?_
      dsimp only
      refine go_bt rfl (by rw [nI_add]; exact Int32.le_refl _) ?_
      refine go_t 0 rfl ?_
      refine go_gR rfl rfl rfl rfl ?_
      refine go_t 0 rfl ?_
      refine go_aldM (k := 0) rfl rfl rfl rfl rfl (by omega) (by decide) ?_
      rw [fu_self, show f 0 = x from hst.1]
      refine go_br rfl (fun h150 => ?_) (fun h150 => ?_)
      · skip
        refine go_t 0 rfl ?_
        refine go_ret rfl ?_
        exact ⟨by rw [bI_f (fun q => q.2 (hx.trans h150))], f, rfl⟩
      · skip
        refine go_t 0 rfl ?_
        refine go_ret rfl ?_
        exact ⟨by rw [bI_t ⟨h0, fun q => h150 (hx.symm.trans q)⟩], f, rfl⟩
    · rw [hs] at hl; simp at hl
end MO
