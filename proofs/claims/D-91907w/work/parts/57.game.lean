/-! WHAT STAYS; asks; games -/
set_option maxRecDepth 100000
section CG
variable {d L n s : Nat} {D : Nat → Nat × Nat} {C M P : Nat → Nat → Int32} {R : Nat → Nat → Option Nat} {m : Mem}
/-- the cells of F are as they were -/
def Kp (F : Nat → Prop) (L : Nat) (D : Nat → Nat × Nat) (C : Nat → Nat → Int32) (R : Nat → Nat → Option Nat) (D' : Nat → Nat × Nat) (C' : Nat → Nat → Int32) (R' : Nat → Nat → Option Nat) : Prop :=
  ∀ a, F a → kf L D' a = kf L D a ∧ C' a = C a ∧ rf R' a = rf R a ∧ R' a = R a
theorem LsR.kp {F : Nat → Prop} {D' : Nat → Nat × Nat} {C' : Nat → Nat → Int32} {R' : Nat → Nat → Option Nat} {n' a N : Nat} {f : Nat → Nat} (h : LsR L D C R n a N f) (hk : Kp F L D C R D' C' R') (hn : n ≤ n') (h1 : F a) (h2 : ∀ e, R a 1 = some e → F e) : LsR L D' C' R' n' a N f := by
  obtain ⟨o, c, e, cap, e1, e2, e3, e4⟩ := h
  obtain ⟨k1, k2, k3, k4⟩ := hk a h1
  obtain ⟨j1, j2, j3, j4⟩ := hk e (h2 e e1)
  refine ⟨⟨by rw [k1]; exact o.1, o.2⟩, by rw [k2]; exact c, e, cap, by rw [k4]; exact e1, e2, fun i hi => by rw [j3]; exact e3 i hi, ?_⟩
  rcases e4 with e4 | ⟨e4, e5, e6, e7⟩
  · exact Or.inl e4
  · exact Or.inr ⟨⟨by rw [j1]; exact e4.1, e4.2⟩, e5, by omega, e7⟩
theorem TR.kp {F F' : Nat → Prop} {D' : Nat → Nat × Nat} {C' : Nat → Nat → Int32} {R' : Nat → Nat → Option Nat} {n' : Nat} (hk : Kp F L D C R D' C' R') (hn : n ≤ n') (hF : ∀ a, F a → F' a) : ∀ q b t c, TR F L D C R n q b t c → TR F' L D' C' R' n' q b t c := by
  intro q
  induction q with
  | zero => intro b t c h; exact h.elim
  | succ q ih =>
    intro b t c hT
    obtain ⟨hFt, hT⟩ := hT
    obtain ⟨k1, k2, k3, k4⟩ := hk t hFt
    have rd : ∀ {x y}, Rd L D t x y → Rd L D' t x y := fun h => ⟨by rw [k1]; exact h.1, h.2⟩
    refine ⟨hF _ hFt, ?_⟩
    rcases hT with ⟨h1, hr, h2⟩ | ⟨h1, hr, h2, v, hv, h0, h3⟩ | ⟨h1, hr, v, x, hv, hx, h0, h2, h3⟩ | ⟨h1, hr, x, hx, h0, h2⟩ | ⟨h1, hr, u, c', hu, hc', h2⟩ | ⟨kd, la, lb, k, hrow, h1, hr, hla, hlb, f, g, cs, sg, fa, fb, fe, fg, hfl, hgl, hk1000, hk1, hts, hsg, h2⟩
    · exact Or.inl ⟨h1, rd hr, by rw [k2]; exact h2⟩
    · exact Or.inr (Or.inl ⟨h1, rd hr, by rw [k2]; exact h2, v, hv, by rw [k2]; exact h0, h3⟩)
    · exact Or.inr (Or.inr (Or.inl ⟨h1, rd hr, v, x, hv, hx, by rw [k2]; exact h0, by rw [k2]; exact h2, h3⟩))
    · exact Or.inr (Or.inr (Or.inr (Or.inl ⟨h1, rd hr, x, hx, by rw [k2]; exact h0, h2⟩)))
    · exact Or.inr (Or.inr (Or.inr (Or.inr (Or.inl ⟨h1, rd hr, u, c', by rw [k3]; exact hu, ih _ _ _ hc', h2⟩))))
    · have e1 := (hk la fa).2.2.2
      have e2 := (hk lb fb).2.2.2
      exact Or.inr (Or.inr (Or.inr (Or.inr (Or.inr ⟨kd, la, lb, k, hrow, h1, rd hr, by rw [k3]; exact hla, by rw [k3]; exact hlb, f, g, cs, sg, hF _ fa, hF _ fb, fun e he => hF _ (fe e (by rw [← e1]; exact he)), fun e he => hF _ (fg e (by rw [← e2]; exact he)), hfl.kp hk hn fa fe, hgl.kp hk hn fb fg, hk1000, hk1, fun i hi => ih _ _ _ (hts i hi), hsg, h2⟩))))
/-- a list of instructions and the arrays that hold it -/
theorem stK_rnL {lf : Int32 → Int32 → Int32} {op ar : Nat → Int32} : ∀ (c : List (Int32 × Int32)) (st : List Int32) (k : Nat), (∀ i, i < c.length → c[i]? = some (op (k + i), ar (k + i))) → stK lf op ar k = st → stK lf op ar (k + c.length) = rnL lf c st := by
  intro c
  induction c with
  | nil => intro st k _ h; exact h
  | cons x c ih =>
    intro st k hc h
    have h0 := hc 0 (by simp)
    simp only [List.getElem?_cons_zero, Option.some.injEq, Nat.add_zero] at h0
    subst h0
    have := ih (stp lf (op k) (ar k) st) (k + 1) (fun i hi => by
      have := hc (i + 1) (by simp; omega)
      rw [List.getElem?_cons_succ] at this
      rw [this, show k + (i + 1) = k + 1 + i by omega]) (by rw [stK, h])
    rw [List.length_cons, show k + (c.length + 1) = k + 1 + c.length by omega, this]
    rfl
/-- rule r of DivisionHall means rule r of P -/
def RuR (P : Nat → Nat → Int32) (F : Nat → Prop) (L : Nat) (D : Nat → Nat × Nat) (C : Nat → Nat → Int32) (R : Nat → Nat → Option Nat) (n r : Nat) : Prop :=
  (R 289 r = none ∧ cmy P r = 0) ∨ ∃ t q c, R 289 r = some t ∧ q ≤ 60 ∧ TR F L D C R n q true t c ∧ cmy P r = c.length ∧ ¬ c.length = 0 ∧ ∀ i, i < c.length → c[i]? = some (opS P r i, arS P r i)
theorem Rd.kp {F : Nat → Prop} {t x y : Nat} (h : Rd L D t x y) : Rd L D t x y := h
theorem term_kOK {kd : Nat} (h : isTerm kd = true) : kOK kd = true := by
  unfold isTerm at h
  simp only [Bool.or_eq_true] at h
  rcases h with (((((((q | q) | q) | q) | q) | q) | q) | q) | q <;> (have := Nat.eq_of_beq_eq_true q; subst this; rfl)
/-- asks: the division is set, the rule's answer comes -/
theorem t53 {F : Nat → Prop} {r S h w b : Nat} {dk kn : Int32} (hN : mN P ≤ 10) (hB : CIc C) (hr : r < 4) (hR : RuR P F L D C R n r) (hF : ∀ a, F a → 337 ≤ a) (hH : HoO L D R h w b) (hne : h ≠ 291 ∧ w ≠ 291 ∧ b ≠ 291) (hC : HsC P dk kn h w b C) (hS : nsub S (inN P dk kn (mN P)) = 0) :
    Ev (d + 200) 53 [.ref 281, .int (nI r), .ref h, .int (nI S)] (mk L D C M R n s) (Rt (Is (some (.int (bI (carP P dk kn r S)))) (mk L D (wr C 291 1 (nI S)) M (wr R 291 0 (some h)) n s))) := by
  have hk : Kp F L D C R D (wr C 291 1 (nI S)) (wr R 291 0 (some h)) := fun a ha => by
    have := hF a ha
    have e : wr R 291 0 (some h) a = R a := wr_ne (by omega)
    exact ⟨rfl, wr_ne (by omega), by rw [rf_hi this, rf_hi this, e], e⟩
  have e289 : rf (wr R 291 0 (some h)) 289 r = R 289 r := by
    rw [rf_op rfl, wr_ne (by decide)]
  refine ev_in rfl ?_
  rcases hR with ⟨h1, h2⟩ | ⟨t, q, c, h1, hq, hT, hc1, hc2, hc3⟩
  · rw [h1] at e289
    refine go_t 0 rfl ?_
    refine go_gR rfl rfl rfl rfl ?_
    refine go_t 0 rfl ?_
    refine go_pR rfl rfl rfl rfl rfl ?_
    refine go_t 0 rfl ?_
    refine go_gR rfl rfl rfl rfl ?_
    refine go_t 0 rfl ?_
    refine go_pI rfl rfl rfl rfl rfl ?_
    refine go_t 0 rfl ?_
    refine go_gR rfl rfl rfl rfl ?_
    refine go_t 0 rfl ?_
    refine go_aald (k := r) rfl rfl rfl rfl (by omega) (by decide) e289 ?_
    refine go_nul1 rfl ?_
    refine go_t 0 rfl ?_
    refine go_ret rfl ?_
    exact ⟨by rw [bI_f (fun z => z.1 h2)], rfl⟩
  · rw [h1] at e289
    have hT' := TR.kp hk (Nat.le_refl n) (fun _ h => h) _ _ _ _ hT
    have hD' : DvR P L D (wr C 291 1 (nI S)) (wr R 291 0 (some h)) dk kn S := by
      obtain ⟨⟨o1, o2, o3, o4, o5, o6, o7, o8⟩, n1, n2, n3, n4, n5, n6, n7, n8, n9⟩ := hH
      refine ⟨h, w, b, wrs .., wrs .., ⟨⟨o1, o2, o3, o4, o5, o6, ?_, ?_⟩, n1, n2, n3, n4, n5, n6, n7, n8, n9⟩, ?_, hS⟩
      · rw [← rf_wr (v := some h) rfl, wr_ne hne.1]; exact o7
      · rw [← rf_wr (v := some h) rfl, wr_ne hne.1]; exact o8
      · unfold HsC at hC ⊢
        rw [wr_ne hne.1, wr_ne hne.2.1, wr_ne hne.2.2]
        exact hC
    have hB' : CIc (wr C 291 1 (nI S)) := fun v hv => by rw [wr_ne (by omega)]; exact hB v hv
    obtain ⟨z, kd, v, k1, k2, k2', k3, k4, k5, k6⟩ := tTR (P := P) (s := s) (M := M) hN hD' hB' q true t c hT'
    have k4' := k4 (d + 199 - (3 * q + 3))
    rw [show d + 199 - (3 * q + 3) + 3 * q + 3 = d + 199 by omega] at k4'
    have hv : vaS P dk kn r S = v := by
      have := stK_rnL (lf := lfS P dk kn S) c [] 0 (fun i hi => by rw [Nat.zero_add]; exact hc3 i hi) rfl
      rw [vaS, hc1, show c.length = 0 + c.length by omega, this, k5 []]
      rfl
    have h0 : ¬ cmy P r = 0 := by rw [hc1]; exact hc2
    refine go_t 0 rfl ?_
    refine go_gR rfl rfl rfl rfl ?_
    refine go_t 0 rfl ?_
    refine go_pR rfl rfl rfl rfl rfl ?_
    refine go_t 0 rfl ?_
    refine go_gR rfl rfl rfl rfl ?_
    refine go_t 0 rfl ?_
    refine go_pI rfl rfl rfl rfl rfl ?_
    refine go_t 0 rfl ?_
    refine go_gR rfl rfl rfl rfl ?_
    refine go_t 0 rfl ?_
    refine go_aald rfl rfl rfl rfl (show r < 4 from hr) (by decide) e289 ?_
    refine go_ifnul rfl k1.k (term_kOK k2') ?_
    refine go_t 0 rfl ?_
    refine go_gR rfl rfl rfl rfl ?_
    refine go_t 0 rfl ?_
    refine go_aald rfl rfl rfl rfl (show r < 4 from hr) (by decide) e289 ?_
    refine go_t 0 rfl ?_
    refine go_gR rfl rfl rfl rfl ?_
    refine go_f (d := d + 199) (cmd_v1 rfl rfl k1.k k2) k3 k4' ?_
    refine go_t 0 rfl (go_br rfl (fun h39 => ?_) (fun h39 => ?_))
    · have hv0 : v = 0 := (k6 rfl).resolve_right h39
      exact go_t 0 rfl (go_ret rfl ⟨by rw [bI_f (fun z => z.2 (hv.trans hv0))], rfl⟩)
    · have hv1 : v = 1 := Decidable.not_not.mp h39
      exact go_t 0 rfl (go_ret rfl ⟨by rw [bI_t ⟨h0, fun z => by rw [hv, hv1] at z; cases z⟩], rfl⟩)
/-- a game of rule r at g -/
def GaR (P : Nat → Nat → Int32) (F : Nat → Prop) (L : Nat) (D : Nat → Nat × Nat) (C : Nat → Nat → Int32) (R : Nat → Nat → Option Nat) (n r g : Nat) : Prop :=
  Ob L D g 18 0 ∧ 337 ≤ g ∧ g < n ∧ ¬ F g ∧ C g 0 = nI (iN P) ∧ C g 1 = nI (popS (iN P)) ∧ R g 5 = some 281 ∧ ∃ c t, R g 2 = some c ∧ Ob L D c 102 1024 ∧ c < n ∧ F c ∧ (∀ S, S < 1024 → C c S = bI (crP P r S)) ∧ R g 3 = some t ∧ Ob L D t 101 4 ∧ 337 ≤ t ∧ t < n ∧ ¬ F t ∧ t ≠ g
theorem wr_wr {α : Type} (R : Nat → Nat → α) (a k : Nat) (x y : α) : wr (wr R a k x) a k y = wr R a k y := by
  funext b j
  by_cases e : b = a
  · subst e
    by_cases e2 : j = k
    · subst e2; rw [wrs, wrs]
    · rw [wrk e2, wrk e2, wrk e2]
  · rw [wr_ne e, wr_ne e, wr_ne e]
theorem Laid.fr {C' : Nat → Nat → Int32} (h : Laid P C) (h1 : C' 281 7 = C 281 7) (h2 : C' 283 = C 283) (h3 : C' 284 = C 284) (h4 : C' 285 = C 285) : Laid P C' := by
  obtain ⟨a, b⟩ := h
  refine ⟨h1.trans a, ?_⟩
  unfold HsC at b ⊢
  rw [h2, h3, h4]
  exact b
theorem RuR.kp {F F' : Nat → Prop} {D' : Nat → Nat × Nat} {C' : Nat → Nat → Int32} {R' : Nat → Nat → Option Nat} {n' r : Nat} (h : RuR P F L D C R n r) (hk : Kp F L D C R D' C' R') (hn : n ≤ n') (hF : ∀ a, F a → F' a) (h9 : R' 289 r = R 289 r) : RuR P F' L D' C' R' n' r := by
  rcases h with ⟨h1, h2⟩ | ⟨t, q, c, h1, h2, h3, h4⟩
  · exact Or.inl ⟨h9.trans h1, h2⟩
  · exact Or.inr ⟨t, q, c, h9.trans h1, h2, TR.kp hk hn hF _ _ _ _ h3, h4⟩
/-- the game's loop: all sets of those in, from the greatest down -/
theorem t215L {F : Nat → Prop} {r g c : Nat} (hV : VP1 P) (hr : r < 4) (hB : CIc C) (hF : ∀ a, F a → 337 ≤ a) (hFc : ¬ F c) (h337 : 337 ≤ c) (hg337 : 337 ≤ g) (hgc : g ≠ c) (hg : Ob L D g 18 0) (hX : C g 0 = nI (iN P)) (hc : R g 2 = some c) (hcO : Ob L D c 102 1024) (hl : Laid P C) (hR : RuR P F L D C R n r) (h0 : ∀ S, S < 1024 → C c S = 0) :
    Go (d + 201) 215 71 [some (.ref g), some (.ref 281), some (.int (nI r)), some (.int (nI (iN P)))] [] (mk L D C M R n s) (Rt (fun v m' => v = none ∧ ∃ C', m' = mk L D C' M (wr R 291 0 (some 283)) n s ∧ (∀ a, a ≠ c → a ≠ 291 → C' a = C a) ∧ ∀ S, S < 1024 → C' c S = bI (crP P r S))) := by
  have hX10 := iN_lt hV.2.1
  refine go_ind (k := iN P + 1) (fun k Lc m => ∃ C' x, Lc = [some (.ref g), some (.ref 281), some (.int (nI r)), some (.int (if k = 0 then -1 else nI (k - 1)))] ∧ m = mk L D C' M (wr R 291 0 x) n s ∧ (∀ a, a ≠ c → a ≠ 291 → C' a = C a) ∧ (∀ S, S < 1024 → C' c S = if k ≤ S then bI (crP P r S) else 0) ∧ (k = iN P + 1 ∨ x = some 283) ∧ (k = 0 ∨ nsub (k - 1) (iN P) = 0)) ?_ ?_
  · rintro k _ _ ⟨C', x, rfl, rfl, hfr, hS, hx, hk⟩ kk
    by_cases hk0 : k = 0
    · subst hk0
      have hx := hx.resolve_left (by omega)
      subst hx
      refine go_t 0 rfl ?_
      refine go_nx rfl ?_
      refine go_ret rfl ?_
      exact ⟨rfl, C', rfl, hfr, fun S h => by rw [hS S h, if_pos (Nat.zero_le _)]⟩
    · obtain ⟨p, rfl⟩ : ∃ p, k = p + 1 := ⟨k - 1, by omega⟩
      have hp := hk.resolve_left (by omega)
      rw [show p + 1 - 1 = p by omega] at hp ⊢
      rw [if_neg hk0]
      have hple := sub_le hp
      have hlt : p < 1024 := by omega
      have hl' : Laid P C' := hl.fr (by rw [hfr _ (by omega) (by decide)]) (hfr _ (by omega) (by decide)) (hfr _ (by omega) (by decide)) (hfr _ (by omega) (by decide))
      have hkp : Kp F L D C R D C' (wr R 291 0 x) := fun a ha => by
        have h1 := hF a ha
        have e : wr R 291 0 x a = R a := wr_ne (by omega)
        exact ⟨rfl, hfr a (fun q => hFc (by rw [← q]; exact ha)) (by omega), by rw [rf_hi h1, rf_hi h1, e], e⟩
      have hR' := hR.kp hkp (Nat.le_refl n) (fun _ h => h) (by rw [wr_ne (by decide)])
      have hB' : CIc C' := fun v hv => by rw [hfr _ (by omega) (by omega)]; exact hB v hv
      have hval : rf (wr R 291 0 x) g 2 = some c := by rw [rf_hi hg337, wr_ne (by omega)]; exact hc
      have hX' : ∀ v, wr (wr C' 291 1 (nI p)) c p v g 0 = nI (iN P) := fun v => by rw [wr_ne hgc, wr_ne (by omega), hfr _ hgc (by omega)]; exact hX
      have hcar : bI (carP P (P 305 8) (P 305 9) r p) = bI (crP P r p) := bI_iff ⟨fun q => ⟨hp, q⟩, fun q => q.2⟩
      have inv : ∀ k', k' < p + 1 → (∀ S, k' ≤ S → S < p → ¬ nsub S (iN P) = 0) → ∀ S, S < 1024 → wr (wr C' 291 1 (nI p)) c p (bI (carP P (P 305 8) (P 305 9) r p)) c S = if k' ≤ S then bI (crP P r S) else 0 := fun k' hk' hno S hS1 => by
        by_cases e : S = p
        · subst e
          rw [wrs, hcar, if_pos (by omega)]
        · rw [wrk e, wr_ne (by omega), hS S hS1]
          by_cases h1 : p + 1 ≤ S
          · rw [if_pos h1, if_pos (by omega)]
          · rw [if_neg h1]
            by_cases h2 : k' ≤ S
            · rw [if_pos h2, bI_f (fun q => hno S h2 (by omega) q.1)]
            · rw [if_neg h2]
      have fr2 : ∀ v a, a ≠ c → a ≠ 291 → wr (wr C' 291 1 (nI p)) c p v a = C a := fun v a h1 h2 => by rw [wr_ne h1, wr_ne h2]; exact hfr a h1 h2
      refine go_t 0 rfl ?_
      refine go_bf rfl (by exact (nI_pos (by omega))) ?_
      refine go_t 0 rfl ?_
      refine go_gR rfl hg.k rfl hval ?_
      refine go_t 0 rfl ?_
      refine go_f rfl rfl (t42' hl') ?_
      refine go_t 0 rfl ?_
      refine go_f rfl rfl (t53 (F := F) hV.2.1 hB' hr hR' hF ho283 ⟨by decide, by decide, by decide⟩ hl'.2 hp) ?_
      rw [wr_wr]
      refine go_bastC (k := p) rfl hcO.k hcO.c rfl narK_bI rfl hlt (by decide) ?_
      refine go_t 0 rfl ?_
      refine go_br rfl (fun h92 => ?_) (fun h92 => ?_)
      · skip
        refine go_t 0 rfl ?_
        dsimp only
        refine go_gI rfl hg.k hg.m rfl ?_
        rw [hX']
        refine go_t 71 rfl ?_
        dsimp only
        first
          | (have hp0 : p = 0 := (nI_zero (by omega)).mp h92; refine kk 0 _ _ (by omega) ⟨_, some 283, rfl, rfl, fr2 _, inv 0 (by omega) (fun S _ h => by omega), Or.inr rfl, Or.inl rfl⟩)
          | (have hp0 : ¬ p = 0 := fun q => h92 ((nI_zero (by omega)).mpr q); rw [nI_pred' hp0]; have hpl := pred_lt (X := iN P) hp0; refine kk (((p - 1) &&& iN P) + 1) _ _ (by omega) ⟨_, some 283, rfl, rfl, fr2 _, inv _ (by omega) (fun S h1 h2 h3 => by have := sub_pred hp h3 h2; omega), Or.inr rfl, Or.inr and_sub⟩)
      · skip
        replace h92 := Decidable.not_not.mp h92
        refine go_t 71 rfl ?_
        first
          | (have hp0 : p = 0 := (nI_zero (by omega)).mp h92; refine kk 0 _ _ (by omega) ⟨_, some 283, rfl, rfl, fr2 _, inv 0 (by omega) (fun S _ h => by omega), Or.inr rfl, Or.inl rfl⟩)
          | (have hp0 : ¬ p = 0 := fun q => h92 ((nI_zero (by omega)).mpr q); rw [nI_pred' hp0]; have hpl := pred_lt (X := iN P) hp0; refine kk (((p - 1) &&& iN P) + 1) _ _ (by omega) ⟨_, some 283, rfl, rfl, fr2 _, inv _ (by omega) (fun S h1 h2 h3 => by have := sub_pred hp h3 h2; omega), Or.inr rfl, Or.inr and_sub⟩)
  · refine ⟨C, R 291 0, rfl, by rw [wR_id rfl], fun _ _ _ => rfl, fun S hS => ?_, Or.inl rfl, Or.inr (sub_rf _)⟩
    rw [h0 S hS]
    by_cases h : iN P + 1 ≤ S
    · rw [if_pos h, bI_f (fun q => by have := sub_le q.1; omega)]
    · rw [if_neg h]
/-- the transient ints of DivisionHall -/
def wQ (a k : Nat) : Bool := (Nat.beq a 281 && (Nat.beq k 7 || Nat.beq k 17 || Nat.beq k 18 || Nat.beq k 19 || Nat.beq k 21 || Nat.beq k 22)) || (Nat.ble 283 a && Nat.ble a 288) || Nat.beq a 291 || Nat.beq a 294
theorem wV_wQ {a k : Nat} (h : wQ a k = false) : wV a k = false := by
  cases hv : wV a k with
  | false => rfl
  | true =>
    exfalso
    simp only [wV, wH, Bool.or_eq_true, Bool.and_eq_true] at hv
    rcases hv with (((⟨h1, h2⟩ | h1) | h1) | ⟨h1, h2⟩) <;> (have h1 := Nat.eq_of_beq_eq_true h1; subst h1)
    · simp [wQ] at h
    · simp [wQ] at h
    · simp [wQ] at h
    · have h2 := Nat.eq_of_beq_eq_true h2; subst h2; simp [wQ] at h
theorem wV_hi {a k : Nat} (h : 286 ≤ a) : wV a k = false := by
  unfold wV
  rw [wH_ob (by omega) (by omega) (by omega), nbq (by omega)]
  rfl
/-- who asks: members, view, division, rules -/
def CIa (P : Nat → Nat → Int32) (F : Nat → Prop) (f : Nat → Nat) (L : Nat) (D : Nat → Nat × Nat) (C : Nat → Nat → Int32) (R : Nat → Nat → Option Nat) (n : Nat) : Prop :=
  VP1 P ∧ CIv P C ∧ CIl P C ∧ ShR P L D C R n f ∧ (∀ i, i < sN P → 337 ≤ f i) ∧ CIc C ∧ (∀ a, F a → 337 ≤ a ∧ a < n) ∧ 337 ≤ n ∧ ∀ r, r < 4 → RuR P F L D C R n r
theorem ShR.fr {D' : Nat → Nat × Nat} {C' : Nat → Nat → Int32} {R' : Nat → Nat → Option Nat} {n' : Nat} {f : Nat → Nat} (h : ShR P L D C R n f) (hn : n ≤ n') (hD : ∀ a, a < n → kf L D' a = kf L D a) (h337 : 337 ≤ n) (hC2 : C' 282 2 = C 282 2) (hR2 : R' 282 1 = R 282 1) (hCf : ∀ i, i < sN P → C' (f i) = C (f i)) (hRe : ∀ e, R 282 1 = some e → R' e = R e) : ShR P L D' C' R' n' f := by
  obtain ⟨⟨o, c, e, cap, e1, e2, e3, e4⟩, hE⟩ := h
  refine ⟨⟨⟨by rw [hD _ (by omega)]; exact o.1, o.2⟩, hC2.trans c, e, cap, hR2.trans e1, e2, fun i hi => ?_, ?_⟩, fun i hi => ?_⟩
  · have := e3 i hi
    unfold rf at this ⊢
    rw [hRe e e1]
    exact this
  · rcases e4 with e4 | ⟨e4, e5, e6, e7⟩
    · exact Or.inl e4
    · exact Or.inr ⟨⟨by rw [hD _ e6]; exact e4.1, e4.2⟩, e5, by omega, e7⟩
  · obtain ⟨b1, b2, b3⟩ := hE i hi
    refine ⟨⟨by rw [hD _ b2]; exact b1.1, b1.2⟩, by omega, ?_⟩
    rw [hCf i hi]
    exact b3
/-- a game is made: all of it -/
theorem t215 {F : Nat → Prop} {f : Nat → Nat} {r g : Nat} (hr : r < 4) (hA : CIa P F f L D C R n) (h337 : 337 ≤ g) (hgn : g < n) (hgF : ¬ F g) (hgf : ∀ i, i < sN P → f i ≠ g) (hge : R 282 1 ≠ some g) (hg : Ob L D g 18 0) :
    Ev (d + 201) 215 [.ref g, .ref 281, .int (nI r)] (mk L D C M R n s) (Rt (fun v m' => v = none ∧ ∃ C' R', m' = mk L (fu (fu D n (102, 1024)) (n + 1) (101, 4)) C' M R' (n + 2) (s + 1028) ∧
      (∀ a k, a < 337 → a ≠ 291 → wV a k = false → C' a k = C a k) ∧ (∀ a, 337 ≤ a → a < n → a ≠ g → C' a = C a) ∧ (∀ a, a < n → a ≠ g → a ≠ 291 → R' a = R a) ∧ Laid P C' ∧
      C' g 0 = nI (iN P) ∧ C' g 1 = nI (popS (iN P)) ∧ R' g 5 = some 281 ∧ R' g 2 = some n ∧ R' g 3 = some (n + 1) ∧ (∀ S, S < 1024 → C' n S = bI (crP P r S)) ∧ C' g 4 = C g 4 ∧ ∀ k, k < 4 → C' (n + 1) k = -1)) := by
  obtain ⟨hV, hv, hl, hS, hlow, hB, hF, hn, hRu⟩ := hA
  have hX10 := iN_lt hV.2.1
  refine ev_in rfl ?_
  refine go_t 0 rfl ?_
  refine go_pR rfl hg.k hg.c hg.o rfl ?_
  refine go_t 0 rfl (go_obj rfl hg.c rfl ?_)
  refine go_t 0 rfl ?_
  have hv5 : rf (wr R g 5 (some 281)) g 5 = some 281 := by rw [hg.R, wrs]
  refine go_gR rfl hg.k rfl hv5 ?_
  have hS0 : ShR P L D C (wr R g 5 (some 281)) n f := hS.fr (Nat.le_refl n) (fun _ _ => rfl) hn rfl (by rw [wr_ne (by omega)]) (fun _ _ => rfl) (fun e he => wr_ne (fun q => hge (by rw [he, q])))
  refine go_c (d := d + 200) rfl rfl (t42 (d := d + 196) hV hS0 hlow hv hl) (fun v1 m1 hq1 => ?_)
  obtain ⟨rfl, C1, rfl, hF1, hL1⟩ := hq1
  have hi := hL1.2.1
  refine go_gI rfl rfl rfl rfl ?_
  rw [hi]
  refine go_pI rfl hg.k hg.c rfl rfl ?_
  refine go_t 0 rfl ?_
  refine go_gI rfl hg.k hg.m rfl ?_
  rw [wrs]
  refine go_f rfl rfl (t29 hX10) ?_
  refine go_pI rfl hg.k hg.c rfl rfl ?_
  refine go_t 0 rfl ?_
  refine go_newA (k := 1024) rfl rfl hn rfl (by decide) ?_
  have hgn1 : g ≠ n := by omega
  have hgn2 : g ≠ n + 1 := by omega
  have hg1 : Ob L (fu D n (102, 1024)) g 18 0 := hg.up hgn1
  refine go_pR rfl hg1.k hg1.c hg1.o rfl ?_
  refine go_t 0 rfl ?_
  refine go_newA (k := 4) rfl rfl (by omega) rfl (by decide) ?_
  have hg2 : Ob L (fu (fu D n (102, 1024)) (n + 1) (101, 4)) g 18 0 := hg1.up hgn2
  have ht2 : Ob L (fu (fu D n (102, 1024)) (n + 1) (101, 4)) (n + 1) 101 4 := Ob.new (by omega)
  have hc2 : Ob L (fu (fu D n (102, 1024)) (n + 1) (101, 4)) n 102 1024 := (Ob.new hn).up (by omega)
  refine go_t 0 rfl ?_
  refine go_iastC (k := 0) rfl ht2.k ht2.c rfl (by decide) (by decide) ?_
  refine go_t 0 rfl ?_
  refine go_iastC (k := 1) rfl ht2.k ht2.c rfl (by decide) (by decide) ?_
  refine go_t 0 rfl ?_
  refine go_iastC (k := 2) rfl ht2.k ht2.c rfl (by decide) (by decide) ?_
  refine go_t 0 rfl ?_
  refine go_iastC (k := 3) rfl ht2.k ht2.c rfl (by decide) (by decide) ?_
  refine go_pR rfl hg2.k hg2.c hg2.o rfl ?_
  refine go_t 0 rfl ?_
  refine go_gI rfl hg2.k hg2.m rfl ?_
  generalize hC2 : wr (wr (wr (wr (fu (fu (wr (wr C1 g 0 (nI (iN P))) g 1 (nI (popS (iN P)))) n fun _ => 0) (n + 1) fun _ => 0) (n + 1) 0 (-1)) (n + 1) 1 (-1)) (n + 1) 2 (-1)) (n + 1) 3 (-1) = C2
  generalize hR2 : wr (fu (wr (fu (wr R g 5 (some 281)) n fun _ => none) g 2 (some n)) (n + 1) fun _ => none) g 3 (some (n + 1)) = R2
  have eg0 : C2 g 0 = nI (iN P) := by
    rw [← hC2, wr_ne hgn2, wr_ne hgn2, wr_ne hgn2, wr_ne hgn2, fu_ne hgn2, fu_ne hgn1, wrk (by decide), wrs]
  have eg1 : C2 g 1 = nI (popS (iN P)) := by
    rw [← hC2, wr_ne hgn2, wr_ne hgn2, wr_ne hgn2, wr_ne hgn2, fu_ne hgn2, fu_ne hgn1, wrs]
  have eg4 : C2 g 4 = C g 4 := by
    rw [← hC2, wr_ne hgn2, wr_ne hgn2, wr_ne hgn2, wr_ne hgn2, fu_ne hgn2, fu_ne hgn1, wrk (by decide), wrk (by decide)]
    exact hF1 _ _ (wV_hi (by omega))
  have en : C2 n = fun _ => 0 := by
    rw [← hC2, wr_ne (by omega), wr_ne (by omega), wr_ne (by omega), wr_ne (by omega), fu_ne (by omega), fu_self]
  have et : ∀ k, k < 4 → C2 (n + 1) k = -1 := fun k hk => by
    rw [← hC2]
    match k, hk with
    | 0, _ => rw [wrk (by decide), wrk (by decide), wrk (by decide), wrs]
    | 1, _ => rw [wrk (by decide), wrk (by decide), wrs]
    | 2, _ => rw [wrk (by decide), wrs]
    | 3, _ => rw [wrs]
  have eC : ∀ a, a < n → a ≠ g → C2 a = C1 a := fun a h1 h2 => by
    rw [← hC2, wr_ne (by omega), wr_ne (by omega), wr_ne (by omega), wr_ne (by omega), fu_ne (by omega), fu_ne (by omega), wr_ne h2, wr_ne h2]
  have rg2 : R2 g 2 = some n := by rw [← hR2, wrk (by decide), fu_ne hgn2, wrs]
  have rg3 : R2 g 3 = some (n + 1) := by rw [← hR2, wrs]
  have rg5 : R2 g 5 = some 281 := by rw [← hR2, wrk (by decide), fu_ne hgn2, wrk (by decide), fu_ne hgn1, wrs]
  have eR : ∀ a, a < n → a ≠ g → R2 a = R a := fun a h1 h2 => by
    rw [← hR2, wr_ne h2, fu_ne (by omega), wr_ne h2, fu_ne (by omega), wr_ne h2]
  rw [eg0]
  have hl2 : Laid P C2 := hL1.fr (by rw [eC _ (by omega) (by omega)]) (eC _ (by omega) (by omega)) (eC _ (by omega) (by omega)) (eC _ (by omega) (by omega))
  have hB2 : CIc C2 := fun v hv => by rw [eC _ (by omega) (by omega), hF1 _ _ (by unfold wV; rw [wH_ob (by omega) (by omega) (by omega), nbq (by omega)]; rfl)]; exact hB v hv
  have hkp : Kp F L D C R (fu (fu D n (102, 1024)) (n + 1) (101, 4)) C2 R2 := fun a ha => by
    obtain ⟨q1, q2⟩ := hF a ha
    have q3 : a ≠ g := fun q => hgF (by rw [← q]; exact ha)
    have e : R2 a = R a := eR a q2 q3
    refine ⟨by rw [kf_up (by omega), kf_up (by omega)], ?_, by rw [rf_hi q1, rf_hi q1, e], e⟩
    rw [eC a q2 q3]
    funext k
    exact hF1 _ _ (wV_hi (by omega))
  have hRu2 := (hRu r hr).kp hkp (show n ≤ n + 2 by omega) (fun _ h => h) (by rw [eR _ (by omega) (by omega)])
  refine go_t 71 rfl ?_
  refine go_post (t215L (d := d) (F := F) (c := n) hV hr hB2 (fun a h => (hF a h).1) (fun q => by have := (hF n q).2; omega) hn h337 hgn1 hg2 eg0 rg2 hc2 hl2 hRu2 (fun S _ => by rw [en])) (fun q hq => ?_)
  obtain ⟨o, mm⟩ := q
  cases o with
  | inr a => exact hq.elim
  | inl v =>
    obtain ⟨hv, C', hm, hfr, hcar⟩ := hq
    refine ⟨hv, C', wr R2 291 0 (some 283), hm, fun a k h1 h2 h3 => ?_, fun a h1 h2 h3 => ?_, fun a h1 h2 h3 => by rw [wr_ne h3]; exact eR a h1 h2, ?_, ?_, ?_, ?_, ?_, ?_, hcar, ?_, ?_⟩
    · rw [hfr a (by omega) h2, eC a (by omega) (by omega)]
      exact hF1 _ _ h3
    · rw [hfr a (by omega) (by omega), eC a h2 h3]
      funext k
      exact hF1 _ _ (wV_hi (by omega))
    · exact hl2.fr (by rw [hfr _ (by omega) (by decide)]) (hfr _ (by omega) (by decide)) (hfr _ (by omega) (by decide)) (hfr _ (by omega) (by decide))
    · rw [hfr g hgn1 (by omega)]; exact eg0
    · rw [hfr g hgn1 (by omega)]; exact eg1
    · rw [wr_ne (by omega)]; exact rg5
    · rw [wr_ne (by omega)]; exact rg2
    · rw [wr_ne (by omega)]; exact rg3
    · rw [hfr g hgn1 (by omega)]; exact eg4
    · intro k hk; rw [hfr (n + 1) (by omega) (by omega)]; exact et k hk
end CG
