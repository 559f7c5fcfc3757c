/-! OPERATIONS: member, view, end, fault, line, value -/
set_option maxRecDepth 100000
section O0
variable {d L n s : Nat} {D : Nat → Nat × Nat} {C M P : Nat → Nat → Int32} {R : Nat → Nat → Option Nat} {m : Mem} {xs : Nat → Int32} {F : Nat → Prop} {f : Nat → Nat}
theorem isInt {x : Int32} : (bif false then ∃ y, Value.int x = Value.long y else ∃ y, Value.int x = Value.int y) := ⟨x, rfl⟩
/-- changes(): nothing is laid, no game there -/
def R4 (R : Nat → Nat → Option Nat) : Nat → Nat → Option Nat := wr (wr (wr (wr R 292 0 none) 292 1 none) 292 2 none) 292 3 none
theorem R4_r {r : Nat} (h : r < 4) : R4 R 292 r = none := by
  unfold R4
  match r, h with
  | 0, _ => rfl
  | 1, _ => rfl
  | 2, _ => rfl
  | 3, _ => rfl
theorem R4_ne {a : Nat} (h : a ≠ 292) : R4 R a = R a := by
  unfold R4
  rw [wr_ne h, wr_ne h, wr_ne h, wr_ne h]
theorem t34 : Ev d 34 [.ref 281] (mk L D C M R n s) (Rt (Is none (mk L D (wr C 281 7 0) M (R4 R) n s))) := by
  have e : exec 80 d 34 0 (entL [.ref 281] (mxl 34)) [] (mk L D C M R n s) = some (.inl none, (kf L D, wr (j2 C M) 281 7 0, wr (wr (wr (wr (rf R) 292 0 none) 292 1 none) 292 2 none) 292 3 none, n, s)) := rfl
  rw [j2_wc rfl, rf_wr rfl, rf_wr rfl, rf_wr rfl, rf_wr rfl] at e
  exact ev_of e
/-- what is laid anew, what is kept, after changes() and a change of P's cells that sets depend on -/
theorem CI.ch {P' : Nat → Nat → Int32} {C' : Nat → Nat → Int32} (h : CI trT xs P F f L D C R n) (hV : VP P') (hv : CIv P' C') (h7 : C' 281 7 = 0) (hs : sN P' = sN P) (hsh : ∀ i, i < sN P → P' 306 i = P 306 i ∧ P' 307 i = P 307 i ∧ P' 308 i = P 308 i ∧ P' 309 i = P 309 i ∧ P' 310 i = P 310 i) (hru : ∀ r, r < 4 → RuR P F L D C R n r → RuR P' F L D C R n r)
    (hC : ∀ a k, a ≠ 281 → C' a k = C a k) (h4 : C' 281 4 = C 281 4) (ho : CIo xs P' F L D C' (R4 R)) : CI trT xs P' F f L D C' (R4 R) n := by
  obtain ⟨a1, ⟨b1, b2, b3, b4, b5, b6, b7, b8, b9⟩, a3, a4, a5, a6⟩ := h
  have eC : ∀ a, a ≠ 281 → C' a = C a := fun a ha => funext fun k => hC a k ha
  have hkp : Kp F L D C R D C' (R4 R) := fun a ha => by
    have := b7 a ha
    have e : R4 R a = R a := R4_ne (by omega)
    exact ⟨rfl, eC a (by omega), by rw [rf_hi this.1, rf_hi this.1, e], e⟩
  refine ⟨hV, ⟨hV.1, hv, Or.inl h7, ?_, by rw [hs]; exact b5, fun v hv => by rw [eC _ (by omega)]; exact b6 v hv, b7, b8, fun r hr => (hru r hr (b9 r hr)).kp hkp (Nat.le_refl n) (fun _ h => h) (by rw [R4_ne (by decide)])⟩, ho, ⟨fun r hr => Or.inl (R4_r hr), fun r q g x hr _ _ e => by rw [R4_r hr] at e; cases e⟩, by rw [hs]; exact a5, fun e he => ?_⟩
  · have b4' : ShR P L D C' (R4 R) n f := b4.fr (Nat.le_refl n) (fun _ _ => rfl) b8 (hC _ _ (by decide)) (by rw [R4_ne (by decide)]) (fun i hi => eC _ (by have := b5 i hi; omega)) (fun e he => ?_)
    · unfold ShR at b4' ⊢
      rw [hs]
      refine ⟨b4'.1, fun i hi => ?_⟩
      have := b4'.2 i hi
      unfold ShE at this ⊢
      obtain ⟨e1, e2, e3, e4, e5⟩ := hsh i hi
      rw [e1, e2, e3, e4, e5]
      exact this
    · obtain ⟨⟨o, c, e', cap, e1, e2, e3, e4⟩, _⟩ := b4
      rw [e1] at he
      cases he
      rcases e4 with ⟨e4, _⟩ | ⟨e4, e5, e6, e7⟩
      · exact R4_ne (by omega)
      · exact R4_ne (by omega)
  · rw [R4_ne (by decide)] at he
    exact ⟨(a6 e he).1, fun r g hr e => by rw [R4_r hr] at e; cases e⟩
/-- the fixed cells' facts, when nothing of theirs has changed -/
theorem CIo.ch {P' : Nat → Nat → Int32} {C' : Nat → Nat → Int32} {R' : Nat → Nat → Option Nat} (h : CIo xs P F L D C R) (hF : ∀ a, F a → 337 ≤ a) (hC : ∀ a k, a ≠ 281 → C' a k = C a k) (hR : ∀ a, a ≠ 292 → R' a = R a) (h4 : C' 281 4 = ltS P') (h10 : C' 281 10 = P' 305 18) (h11 : C' 281 11 = P' 305 33) (h12 : C' 281 12 = P' 305 34)
    (hP : ∀ a k, 311 ≤ a → a ≠ 317 → a ≠ 318 → a ≠ 319 → P' a k = P a k) : CIo xs P' F L D C' R' := by
  obtain ⟨a1, a2, a3, a4, a5, a6, a7, a8, a9⟩ := h
  have eC : ∀ a, a ≠ 281 → C' a = C a := fun a ha => funext fun k => hC a k ha
  have hkp : Kp F L D C R D C' R' := fun a ha => by
    have := hF a ha
    have e : R' a = R a := hR a (by omega)
    exact ⟨rfl, eC a (by omega), by rw [rf_hi this, rf_hi this, e], e⟩
  refine ⟨fun a ha => by rw [eC a (by omega)]; exact a1 a ha, h4, h10, h11, h12, fun k hk => by rw [hC _ _ (by decide), hP _ _ (by decide) (by decide) (by decide) (by decide)]; exact a6 k hk, fun m hm => ?_, fun b hb => by rw [hC _ _ (by decide), hP _ _ (by decide) (by decide) (by decide) (by decide)]; exact a8 b hb, fun p b hp hb => by rw [hC _ _ (by omega), hP _ _ (by decide) (by decide) (by decide) (by decide)]; exact a9 p b hp hb⟩
  have := (a7 m hm).kp hkp (fun _ h => h) (by rw [hR _ (by decide)])
  unfold WiR at this ⊢
  simp only [hP 312 m (by decide) (by decide) (by decide) (by decide), fun k => hP 311 k (by decide) (by decide) (by decide) (by decide)]
  exact this
/-! member -/
def uMember (P : Nat → Nat → Int32) : Nat → Nat → Int32 := if mN P = 10 then P else wr P 305 1 (nI (mN P + 1))
def wMember (P : Nat → Nat → Int32) : Int32 := if mN P = 10 then -1 else nI (mN P)
theorem mo0 (hV : VP P) : MoOK P (uMember P) 88 [] (.int (wMember P)) := by
  intro L D C M R n s hP
  obtain ⟨v1, v2, v3, v4⟩ := hV.1
  have e1 : M 305 1 = nI (mN P) := (pr_rd hP rfl).trans v1
  refine ev_in rfl ?_
  by_cases h10 : mN P = 10
  · rw [h10] at e1
    refine go_t 0 rfl ?_
    refine go_pM rfl rfl rfl rfl ?_
    refine go_t 0 rfl ?_
    refine go_gM rfl rfl rfl rfl ?_
    rw [wrk (by decide), e1]
    refine go_t 0 rfl ?_
    refine go_nx rfl ?_
    refine go_t 0 rfl ?_
    refine go_ret rfl ?_
    exact ⟨by rw [wMember, if_pos h10], _, rfl, by rw [pr_wr rfl, hP, uMember, if_pos h10]⟩
  · skip
    refine go_t 0 rfl ?_
    refine go_pM rfl rfl rfl rfl ?_
    refine go_t 0 rfl ?_
    refine go_gM rfl rfl rfl rfl ?_
    rw [wrk (by decide), e1]
    refine go_t 0 rfl ?_
    refine go_bt rfl (by exact (fun q => h10 ((nI_eq (a := mN P) (b := 10) (by omega) (by decide)).mp q))) ?_
    refine go_t 0 rfl ?_
    refine go_gM rfl rfl rfl rfl ?_
    rw [wrk (by decide), e1]
    refine go_t 0 rfl ?_
    dsimp only
    refine go_pM rfl rfl rfl rfl ?_
    refine go_t 0 rfl ?_
    refine go_gM rfl rfl rfl rfl ?_
    rw [wrs]
    refine go_t 0 rfl ?_
    dsimp only
    refine go_ret rfl ?_
    exact ⟨by rw [wMember, if_neg h10, show nI (mN P) + 1 - 1 = nI (mN P) from Int32.add_sub_cancel _ _], _, rfl, by rw [nI_1, pr_wrp rfl, pr_wr rfl, hP, uMember, if_neg h10]⟩
theorem co0 (hV : VP P) : CoOK P (uMember P) 33 [] (.int (wMember P)) := by
  intro xs F f L D C M R n s h
  have hV := h.1
  obtain ⟨⟨v1, v2, v3, v4⟩, w2, w3, w4, w5, w6, w7, w8⟩ := hV
  have e1 : C 281 3 = nI (mN P) := h.2.1.2.1.1.trans v1
  refine ev_in rfl ?_
  by_cases h10 : mN P = 10
  · rw [h10] at e1
    refine go_t 0 rfl ?_
    refine go_gI rfl rfl rfl rfl ?_
    rw [e1]
    refine go_t 0 rfl ?_
    refine go_nx rfl ?_
    refine go_t 0 rfl ?_
    refine go_ret rfl ?_
    exact ⟨by rw [wMember, if_pos h10], F, f, D, C, R, n, s, rfl, by rw [uMember, if_pos h10]; exact h, by omega, by omega⟩
  · have hmN : mN (wr P 305 1 (nI (mN P + 1))) = mN P + 1 := by
      show (wr P 305 1 (nI (mN P + 1)) 305 1).toNatClampNeg = _
      rw [wrs]
      exact nI_clamp (by omega)
    have hV' : VP (wr P 305 1 (nI (mN P + 1))) := ⟨⟨by rw [wrs, hmN], by omega, v3, v4⟩, w2, w3, w4, w5, w6, w7, w8⟩
    have hCI : CI trT xs (uMember P) F f L D (wr (wr C 281 3 (nI (mN P + 1))) 281 7 0) (R4 R) n := by
      rw [uMember, if_neg h10]
      have o := h.2.2.1
      refine h.ch hV' ⟨by rw [wrk (by decide), wrs, wrs], by rw [wrk (by decide), wrk (by decide)]; exact h.2.1.2.1.2.1, by rw [wrk (by decide), wrk (by decide)]; exact h.2.1.2.1.2.2⟩ (wrs ..) rfl (fun i hi => ⟨rfl, rfl, rfl, rfl, rfl⟩) (fun r hr z => z) (fun a k ha => by rw [wr_ne ha, wr_ne ha]) (by rw [wrk (by decide), wrk (by decide)]) ?_
      exact o.ch (fun a ha => (h.2.1.2.2.2.2.2.2.1 a ha).1) (fun a k ha => by rw [wr_ne ha, wr_ne ha]) (fun a ha => R4_ne ha) (by rw [wrk (by decide), wrk (by decide)]; exact o.2.1) (by rw [wrk (by decide), wrk (by decide)]; exact o.2.2.1) (by rw [wrk (by decide), wrk (by decide)]; exact o.2.2.2.1) (by rw [wrk (by decide), wrk (by decide)]; exact o.2.2.2.2.1) (fun a k h1 _ _ _ => by rw [wr_ne (by omega)])
    refine go_t 0 rfl ?_
    refine go_gI rfl rfl rfl rfl ?_
    rw [e1]
    refine go_t 0 rfl ?_
    refine go_bt rfl (by exact (fun q => h10 ((nI_eq (a := mN P) (b := 10) (by omega) (by decide)).mp q))) ?_
    refine go_t 0 rfl ?_
    refine go_gI rfl rfl rfl rfl ?_
    rw [e1]
    refine go_t 0 rfl ?_
    dsimp only
    refine go_pI rfl rfl rfl rfl rfl ?_
    rw [nI_1]
    refine go_t 0 rfl ?_
    refine go_f rfl rfl (t34) ?_
    refine go_t 0 rfl ?_
    refine go_gI rfl rfl rfl rfl ?_
    rw [wrk (by decide), wrs]
    refine go_t 0 rfl ?_
    dsimp only
    refine go_ret rfl ?_
    exact ⟨by rw [wMember, if_neg h10, ← nI_1, show nI (mN P) + 1 - 1 = nI (mN P) from Int32.add_sub_cancel _ _], F, f, D, _, _, n, s, rfl, hCI, by omega, by omega⟩
/-! view -/
theorem CI.same (h : CI trT xs P F f L D C R n) {P' : Nat → Nat → Int32} (hp : HP P P') (hV : VP P') {C' : Nat → Nat → Int32} (hC : ∀ a k, a ≠ 281 → a < 290 ∨ 337 ≤ a → C' a k = C a k) (h281 : C' 281 3 = C 281 3 ∧ C' 281 5 = C 281 5 ∧ C' 281 6 = C 281 6 ∧ C' 281 7 = C 281 7) (h291 : C' 291 = C 291) (ho : CIo xs P' F L D C' R) : CI trT xs P' F f L D C' R n := by
  obtain ⟨a1, a2, a3, a4, a5, a6⟩ := h
  have eC : ∀ a, a ≠ 281 → a < 290 ∨ 337 ≤ a → C' a = C a := fun a h1 h2 => funext fun k => hC a k h1 h2
  have b2 := CIa_hp hp a2
  have b4 := CIg_hp hp a4
  obtain ⟨c1, c2, c3, c4, c5, c6, c7, c8, c9⟩ := b2
  have hkp : Kp F L D C R D C' R := fun a ha => ⟨rfl, eC a (by have := c7 a ha; omega) (Or.inr (c7 a ha).1), rfl, rfl⟩
  refine ⟨hV, ⟨c1, ?_, ?_, ?_, c5, fun v hv => by rw [eC _ (by omega) (by omega)]; exact c6 v hv, c7, c8, fun r hr => (c9 r hr).kp hkp (Nat.le_refl n) (fun _ h => h) rfl⟩, ho, ⟨fun r hr => ?_, b4.2⟩, by rw [sN_hp hp]; exact a5, a6⟩
  · obtain ⟨d1, d2, d3⟩ := c2
    exact ⟨h281.1.trans d1, h281.2.1.trans d2, h281.2.2.1.trans d3⟩
  · rcases c3 with z | z
    · exact Or.inl (h281.2.2.2.trans z)
    · exact Or.inr (z.fr h281.2.2.2 (eC _ (by decide) (by decide)) (eC _ (by decide) (by decide)) (eC _ (by decide) (by decide)))
  · exact c4.fr (Nat.le_refl n) (fun _ _ => rfl) c8 (hC _ _ (by decide) (by decide)) rfl (fun i hi => eC _ (by have := c5 i hi; omega) (Or.inr (c5 i hi))) (fun _ _ => rfl)
  · rcases b4.1 r hr with z | ⟨g, z1, z2, z3⟩
    · exact Or.inl z
    · have e1 : C' g = C g := eC g (by have := z2.2.1; omega) (Or.inr z2.2.1)
      refine Or.inr ⟨g, z1, z2.kp (Nat.le_refl n) (fun _ h => h) (fun _ h => Or.inl h) (fun _ _ => rfl) (fun a ha => eC a (by have := c7 a ha; omega) (Or.inr (c7 a ha).1)) (by rw [e1]) (by rw [e1]) rfl, ?_⟩
      obtain ⟨t, x1, x2⟩ := z3
      obtain ⟨o, q1, q2, q3, q4, q5, q6, c, t', q7, q8, q9, q10, q11, q12, q13, q14, q15, q16, q17⟩ := z2
      rw [q12] at x1
      cases x1
      refine ⟨t, q12, ?_⟩
      rw [e1, eC t (by omega) (Or.inr q14)]
      exact x2
theorem isDay_n {v : Int32} : 0 ≤ v ∧ v ≤ 999 ↔ ∃ x, x < 1000 ∧ v = nI x := by
  constructor
  · rintro ⟨h1, h2⟩
    obtain ⟨j, hj, e⟩ := nI_of2 (M := 999) (n := 999) rfl (Int32.not_lt.mpr h1) h2
    exact ⟨j, by omega, e⟩
  · rintro ⟨x, hx, rfl⟩
    exact ⟨nI_pos' (by omega), nI_le (a := x) (b := 999) (by omega) (by decide)⟩
abbrev okView (a b : Int32) : Prop := (0 ≤ a ∧ a ≤ 999) ∧ 0 ≤ b ∧ b ≤ 999
def uView (P : Nat → Nat → Int32) (a b : Int32) : Nat → Nat → Int32 := if okView a b then wr (wr P 305 8 a) 305 9 b else P
theorem mo2 (a b : Int32) : MoOK P (uView P a b) 93 [.int a, .int b] (.int (bI (okView a b))) := by
  intro L D C M R n s hP
  refine ev_in rfl ?_
  refine go_t 0 rfl ?_
  refine go_pM rfl rfl rfl rfl ?_
  refine go_t 0 rfl ?_
  refine go_f rfl rfl (t91 _) ?_
  refine go_br rfl (fun h10 => ?_) (fun h10 => ?_)
  · skip
    replace h10 := bI_0.mp h10
    refine go_t 0 rfl ?_
    refine go_ret rfl ?_
    exact ⟨by rw [bI_f (fun q => h10 q.1)], _, rfl, by rw [pr_wr rfl, hP, uView, if_neg (fun q => h10 q.1)]⟩
  · skip
    replace h10 := bI_n0.mp h10
    refine go_t 0 rfl ?_
    refine go_f rfl rfl (t91 _) ?_
    refine go_br rfl (fun h18 => ?_) (fun h18 => ?_)
    · skip
      replace h18 := bI_n0.mp h18
      refine go_t 0 rfl ?_
      refine go_pM rfl rfl rfl rfl ?_
      refine go_t 0 rfl ?_
      refine go_pM rfl rfl rfl rfl ?_
      refine go_t 0 rfl ?_
      refine go_ret rfl ?_
      exact ⟨by rw [bI_t ⟨h10, h18⟩], _, rfl, by rw [pr_wrp rfl, pr_wrp rfl, pr_wr rfl, hP, uView, if_pos ⟨h10, h18⟩]⟩
    · skip
      replace h18 := bI_0.mp (Decidable.not_not.mp h18)
      refine go_t 0 rfl ?_
      refine go_ret rfl ?_
      exact ⟨by rw [bI_f (fun q => h18 q.2)], _, rfl, by rw [pr_wr rfl, hP, uView, if_neg (fun q => h18 q.2)]⟩
theorem co2 (a b : Int32) : CoOK P (uView P a b) 39 [.int a, .int b] (.int (bI (okView a b))) := by
  intro xs F f L D C M R n s h
  have hV := h.1
  obtain ⟨⟨v1, v2, v3, v4⟩, w2, w3, w4, w5, w6, w7, w8⟩ := hV
  refine ev_in rfl ?_
  refine go_t 0 rfl ?_
  refine go_f rfl rfl (t38 _) ?_
  refine go_br rfl (fun h4 => ?_) (fun h4 => ?_)
  · skip
    replace h4 := bI_0.mp h4
    refine go_t 0 rfl ?_
    refine go_ret rfl ?_
    exact ⟨by rw [bI_f (fun q => h4 q.1)], F, f, D, C, R, n, s, rfl, by rw [uView, if_neg (fun q => h4 q.1)]; exact h, by omega, by omega⟩
  replace h4 := bI_n0.mp h4
  refine go_t 0 rfl ?_
  refine go_f rfl rfl (t38 _) ?_
  refine go_br rfl (fun h11 => ?_) (fun h11 => ?_)
  rotate_left
  · skip
    replace h11 := bI_0.mp (Decidable.not_not.mp h11)
    refine go_t 0 rfl ?_
    refine go_ret rfl ?_
    exact ⟨by rw [bI_f (fun q => h11 q.2)], F, f, D, C, R, n, s, rfl, by rw [uView, if_neg (fun q => h11 q.2)]; exact h, by omega, by omega⟩
  replace h11 := bI_n0.mp h11
  refine go_t 0 rfl ?_
  refine go_pI rfl rfl rfl rfl rfl ?_
  refine go_t 0 rfl ?_
  refine go_pI rfl rfl rfl rfl rfl ?_
  refine go_t 0 rfl ?_
  refine go_f rfl rfl (t34) ?_
  have hCI : CI trT xs (uView P a b) F f L D (wr (wr (wr C 281 5 a) 281 6 b) 281 7 0) (R4 R) n := by
    rw [uView, if_pos ⟨h4, h11⟩]
    have o := h.2.2.1
    have hV' : VP (wr (wr P 305 8 a) 305 9 b) := ⟨⟨v1, v2, v3, v4⟩, w2, w3, w4, w5, w6, by obtain ⟨x, hx, e⟩ := isDay_n.mp h4; exact ⟨x, hx, by rw [wrk (by decide), wrs, e]⟩, by obtain ⟨x, hx, e⟩ := isDay_n.mp h11; exact ⟨x, hx, by rw [wrs, e]⟩⟩
    refine h.ch hV' ⟨by rw [wrk (by decide), wrk (by decide), wrk (by decide), wrk (by decide), wrk (by decide)]; exact h.2.1.2.1.1, by rw [wrk (by decide), wrk (by decide), wrs, wrk (by decide), wrs], by rw [wrk (by decide), wrs, wrs]⟩ (wrs ..) rfl (fun i hi => ⟨rfl, rfl, rfl, rfl, rfl⟩) (fun r hr z => z) (fun a k ha => by rw [wr_ne ha, wr_ne ha, wr_ne ha]) (by rw [wrk (by decide), wrk (by decide), wrk (by decide)]) ?_
    exact o.ch (fun a ha => (h.2.1.2.2.2.2.2.2.1 a ha).1) (fun a k ha => by rw [wr_ne ha, wr_ne ha, wr_ne ha]) (fun a ha => R4_ne ha) (by rw [wrk (by decide), wrk (by decide), wrk (by decide)]; exact o.2.1) (by rw [wrk (by decide), wrk (by decide), wrk (by decide)]; exact o.2.2.1) (by rw [wrk (by decide), wrk (by decide), wrk (by decide)]; exact o.2.2.2.1) (by rw [wrk (by decide), wrk (by decide), wrk (by decide)]; exact o.2.2.2.2.1) (fun a k h1 _ _ _ => by rw [wr_ne (by omega), wr_ne (by omega)])
  refine go_t 0 rfl (go_ret rfl ?_)
  exact ⟨by rw [bI_t ⟨h4, h11⟩], F, f, D, _, _, n, s, rfl, hCI, by omega, by omega⟩
/-! end -/
abbrev okEnd (P : Nat → Nat → Int32) (a : Int32) : Prop := 0 ≤ a ∧ a ≤ P 305 18
def uEnd (P : Nat → Nat → Int32) (a : Int32) : Nat → Nat → Int32 := if okEnd P a then wr P 305 18 a else P
theorem mo6 (a : Int32) : MoOK P (uEnd P a) 102 [.int a] (.int (bI (okEnd P a))) := by
  intro L D C M R n s hP
  have e1 : M 305 18 = P 305 18 := pr_rd hP rfl
  refine ev_in rfl ?_
  refine go_t 0 rfl ?_
  refine go_pM rfl rfl rfl rfl ?_
  refine go_t 0 rfl ?_
  refine go_gM rfl rfl rfl rfl ?_
  rw [wrk (by decide), e1]
  refine go_f rfl rfl (t92 _ _ _ _) ?_
  refine go_br rfl (fun h15 => ?_) (fun h15 => ?_)
  · skip
    replace h15 := bI_n0.mp h15
    refine go_t 0 rfl ?_
    refine go_pM rfl rfl rfl rfl ?_
    refine go_t 0 rfl ?_
    refine go_ret rfl ?_
    exact ⟨by rw [bI_t h15], _, rfl, by rw [pr_wrp rfl, pr_wr rfl, hP, uEnd, if_pos h15]⟩
  · skip
    replace h15 := bI_0.mp (Decidable.not_not.mp h15)
    refine go_t 0 rfl ?_
    refine go_ret rfl ?_
    exact ⟨by rw [bI_f h15], _, rfl, by rw [pr_wr rfl, hP, uEnd, if_neg h15]⟩
theorem co6 (a : Int32) : CoOK P (uEnd P a) 46 [.int a] (.int (bI (okEnd P a))) := by
  intro xs F f L D C M R n s h
  have hV := h.1
  obtain ⟨w1, w2, w3, w4, ⟨t1, t2, t3, t4⟩, w6, w7, w8⟩ := hV
  have o := h.2.2.1
  have e1 : C 281 10 = P 305 18 := o.2.2.1
  refine ev_in rfl ?_
  refine go_t 0 rfl ?_
  refine go_gI rfl rfl rfl rfl ?_
  rw [e1]
  refine go_f rfl rfl (t37 _ _ _) ?_
  refine go_br rfl (fun h9 => ?_) (fun h9 => ?_)
  rotate_left
  · skip
    replace h9 := bI_0.mp (Decidable.not_not.mp h9)
    refine go_t 0 rfl ?_
    refine go_ret rfl ?_
    exact ⟨by rw [bI_f h9], F, f, D, C, R, n, s, rfl, by rw [uEnd, if_neg h9]; exact h, by omega, by omega⟩
  replace h9 := bI_n0.mp h9
  have hCI : CI trT xs (uEnd P a) F f L D (wr C 281 10 a) R n := by
    rw [uEnd, if_pos h9]
    have ht : tN (wr P 305 18 a) = a.toNatClampNeg := by
      show (wr P 305 18 a 305 18).toNatClampNeg = _
      rw [wrs]
    obtain ⟨j, hj, ej⟩ := nI_of' h9.1
    have hle : j ≤ tN P := by
      have h2 := h9.2
      rw [ej, t1] at h2
      exact (nI_leI hj (by omega)).mp h2
    have hV' : VP (wr P 305 18 a) := ⟨w1, w2, w3, w4, ⟨by rw [wrs, ht, ej, nI_clamp hj], by rw [ht, ej, nI_clamp hj]; omega, t3, t4⟩, w6, w7, w8⟩
    refine h.same (HP.wr rfl) hV' (fun x k h1 _ => by rw [wr_ne h1]) ⟨wrk (by decide), wrk (by decide), wrk (by decide), wrk (by decide)⟩ (wr_ne (by decide)) ?_
    exact o.ch (fun a ha => (h.2.1.2.2.2.2.2.2.1 a ha).1) (fun a k ha => by rw [wr_ne ha]) (fun a ha => rfl) (by rw [wrk (by decide)]; exact o.2.1) (by rw [wrs, wrs]) (by rw [wrk (by decide)]; exact o.2.2.2.1) (by rw [wrk (by decide)]; exact o.2.2.2.2.1) (fun a k h1 _ _ _ => by rw [wr_ne (by omega)])
  refine go_t 0 rfl ?_
  refine go_pI rfl rfl rfl rfl rfl ?_
  refine go_t 0 rfl ?_
  refine go_ret rfl ?_
  exact ⟨by rw [bI_t h9], F, f, D, _, R, n, s, rfl, hCI, by omega, by omega⟩
/-! fault -/
def wFault (P : Nat → Nat → Int32) (a : Int32) : Int32 := if a = 0 then P 305 33 else if a = 1 then P 305 34 else -1
theorem mo8 (a : Int32) : MoOK P P 124 [.int a] (.int (wFault P a)) := by
  intro L D C M R n s hP
  have e1 : M 305 33 = P 305 33 := pr_rd hP rfl
  have e2 : M 305 34 = P 305 34 := pr_rd hP rfl
  refine ev_in rfl ?_
  refine go_t 0 rfl ?_
  refine go_pM rfl rfl rfl rfl ?_
  refine go_t 0 rfl ?_
  refine go_br rfl (fun h6 => ?_) (fun h6 => ?_)
  · skip
    refine go_t 0 rfl ?_
    refine go_br rfl (fun h18 => ?_) (fun h18 => ?_)
    · skip
      refine go_t 0 rfl ?_
      refine go_ret rfl ?_
      exact ⟨by rw [wFault, if_neg h6, if_neg h18], _, rfl, by rw [pr_wr rfl, hP]⟩
    · skip
      replace h18 := Decidable.not_not.mp h18
      refine go_t 0 rfl ?_
      refine go_gM rfl rfl rfl rfl ?_
      rw [wrk (by decide), e2]
      refine go_t 0 rfl ?_
      refine go_ret rfl ?_
      exact ⟨by rw [wFault, if_neg h6, if_pos h18], _, rfl, by rw [pr_wr rfl, hP]⟩
  · skip
    replace h6 := Decidable.not_not.mp h6
    refine go_t 0 rfl ?_
    refine go_gM rfl rfl rfl rfl ?_
    rw [wrk (by decide), e1]
    refine go_t 0 rfl ?_
    refine go_ret rfl ?_
    exact ⟨by rw [wFault, if_pos h6], _, rfl, by rw [pr_wr rfl, hP]⟩
theorem co8 (a : Int32) : CoOK P P 49 [.int a] (.int (wFault P a)) := by
  intro xs F f L D C M R n s h
  have o := h.2.2.1
  have e1 : C 281 11 = P 305 33 := o.2.2.2.1
  have e2 : C 281 12 = P 305 34 := o.2.2.2.2.1
  refine ev_in rfl ?_
  refine go_t 0 rfl ?_
  refine go_br rfl (fun h1 => ?_) (fun h1 => ?_)
  · skip
    refine go_t 0 rfl ?_
    refine go_br rfl (fun h13 => ?_) (fun h13 => ?_)
    · skip
      refine go_t 0 rfl ?_
      refine go_ret rfl ?_
      exact ⟨by rw [wFault, if_neg h1, if_neg h13], F, f, D, C, R, n, s, rfl, h, by omega, by omega⟩
    · skip
      replace h13 := Decidable.not_not.mp h13
      refine go_t 0 rfl ?_
      refine go_gI rfl rfl rfl rfl ?_
      rw [e2]
      refine go_t 0 rfl ?_
      refine go_ret rfl ?_
      exact ⟨by rw [wFault, if_neg h1, if_pos h13], F, f, D, C, R, n, s, rfl, h, by omega, by omega⟩
  · skip
    replace h1 := Decidable.not_not.mp h1
    refine go_t 0 rfl ?_
    refine go_gI rfl rfl rfl rfl ?_
    rw [e1]
    refine go_t 0 rfl ?_
    refine go_ret rfl ?_
    exact ⟨by rw [wFault, if_pos h1], F, f, D, C, R, n, s, rfl, h, by omega, by omega⟩
/-! line, value -/
abbrev okLine (a b : Int32) : Prop := (0 ≤ a ∧ a ≤ 5) ∧ 0 ≤ b ∧ b ≤ 99
def uLine (P : Nat → Nat → Int32) (a b : Int32) : Nat → Nat → Int32 := if okLine a b then wr P 328 a.toNatClampNeg b else P
theorem in_n {v : Int32} {N : Nat} (M : Int32) (hM : M.toInt = N) (h : 0 ≤ v ∧ v ≤ M) : ∃ x, x ≤ N ∧ v = nI x := nI_of2 hM (Int32.not_lt.mpr h.1) h.2
theorem by_n {x : Nat} (h : x < 100) : (nI x).toInt8.toInt32 = nI x := by
  have : ∀ x : Fin 100, (nI x.val).toInt8.toInt32 = nI x.val := by decide
  exact this ⟨x, h⟩
theorem mo22 (a b : Int32) : MoOK P (uLine P a b) 162 [.int a, .int b] (.int (bI (okLine a b))) := by
  intro L D C M R n s hP
  refine ev_in rfl ?_
  refine go_t 0 rfl ?_
  refine go_pM rfl rfl rfl rfl ?_
  refine go_t 0 rfl ?_
  refine go_f rfl rfl (t92 _ _ _ _) ?_
  refine go_br rfl (fun h12 => ?_) (fun h12 => ?_)
  · skip
    replace h12 := bI_0.mp h12
    refine go_t 0 rfl ?_
    refine go_ret rfl ?_
    exact ⟨by rw [bI_f (fun q => h12 q.1)], _, rfl, by rw [pr_wr rfl, hP, uLine, if_neg (fun q => h12 q.1)]⟩
  replace h12 := bI_n0.mp h12
  refine go_t 0 rfl ?_
  refine go_f rfl rfl (t92 _ _ _ _) ?_
  refine go_br rfl (fun h23 => ?_) (fun h23 => ?_)
  rotate_left
  · skip
    replace h23 := bI_0.mp (Decidable.not_not.mp h23)
    refine go_t 0 rfl ?_
    refine go_ret rfl ?_
    exact ⟨by rw [bI_f (fun q => h23 q.2)], _, rfl, by rw [pr_wr rfl, hP, uLine, if_neg (fun q => h23 q.2)]⟩
  replace h23 := bI_n0.mp h23
  have e0 : uLine P a b = wr P 328 a.toNatClampNeg b := by rw [uLine, if_pos ⟨h12, h23⟩]
  obtain ⟨x, hx, rfl⟩ := in_n 5 (N := 5) rfl h12
  rw [nI_clamp (by omega)] at e0
  have hp : per 328 x = true := by simp [per]
  refine go_t 0 rfl ?_
  refine go_gR rfl rfl rfl rfl ?_
  refine go_t 0 rfl ?_
  refine go_iastM (k := x) rfl rfl rfl rfl (by omega) (by decide) ?_
  refine go_t 0 rfl ?_
  refine go_ret rfl ?_
  exact ⟨by rw [bI_t ⟨h12, h23⟩], _, rfl, by rw [pr_wrp hp, pr_wr rfl, hP, e0]⟩
theorem co22 (a b : Int32) : CoOK P (uLine P a b) 73 [.int a, .int b] (.int (bI (okLine a b))) := by
  intro xs F f L D C M R n s h
  have hV := h.1
  obtain ⟨w1, w2, w3, w4, w5, ⟨p1, p2⟩, w7, w8⟩ := hV
  have o := h.2.2.1
  refine ev_in rfl ?_
  refine go_t 0 rfl ?_
  refine go_f rfl rfl (t74 _) ?_
  refine go_br rfl (fun h4 => ?_) (fun h4 => ?_)
  · skip
    replace h4 := bI_0.mp h4
    refine go_t 0 rfl ?_
    refine go_ret rfl ?_
    exact ⟨by rw [bI_f (fun q => h4 q.1)], F, f, D, C, R, n, s, rfl, by rw [uLine, if_neg (fun q => h4 q.1)]; exact h, by omega, by omega⟩
  replace h4 := bI_n0.mp h4
  refine go_t 0 rfl ?_
  refine go_f rfl rfl (t37 _ _ _) ?_
  refine go_br rfl (fun h14 => ?_) (fun h14 => ?_)
  rotate_left
  · skip
    replace h14 := bI_0.mp (Decidable.not_not.mp h14)
    refine go_t 0 rfl ?_
    refine go_ret rfl ?_
    exact ⟨by rw [bI_f (fun q => h14 q.2)], F, f, D, C, R, n, s, rfl, by rw [uLine, if_neg (fun q => h14 q.2)]; exact h, by omega, by omega⟩
  replace h14 := bI_n0.mp h14
  have e0 : uLine P a b = wr P 328 a.toNatClampNeg b := by rw [uLine, if_pos ⟨h4, h14⟩]
  have hok : okLine a b := ⟨h4, h14⟩
  obtain ⟨x, hx, rfl⟩ := in_n 5 (N := 5) rfl h4
  obtain ⟨y, hy, rfl⟩ := in_n 99 (N := 99) rfl h14
  rw [nI_clamp (by omega)] at e0
  have hCI : CI trT xs (uLine P (nI x) (nI y)) F f L D (wr C 295 x (nI y)) R n := by
    rw [e0]
    have hV' : VP (wr P 328 x (nI y)) := ⟨w1, w2, w3, w4, w5, ⟨fun b hb => by
      by_cases e : b = x
      · subst e; exact ⟨y, by omega, wrs ..⟩
      · rw [wrk e]; exact p1 b hb, p2⟩, w7, w8⟩
    refine h.same (HP.wr rfl) hV' (fun z k h1 h2 => by rw [wr_ne (by omega)]) ⟨rfl, rfl, rfl, rfl⟩ (wr_ne (by decide)) ?_
    obtain ⟨o1, o2, o3, o4, o5, o6, o7, o8, o9⟩ := o
    refine ⟨fun z hz => by rw [wr_ne (by omega)]; exact o1 z hz, o2, o3, o4, o5, o6, fun m hm => ?_, fun b hb => ?_, fun p b hp hb => by rw [wr_ne (by omega)]; exact o9 p b hp hb⟩
    · exact (o7 m hm).kp (fun z hz => ⟨rfl, wr_ne (by have := h.2.1.2.2.2.2.2.2.1 z hz; omega), rfl, rfl⟩) (fun _ h => h) rfl
    · by_cases e : b = x
      · subst e; rw [wrs, wrs]
      · rw [wrk e, wrk e]; exact o8 b hb
  refine go_t 0 rfl ?_
  refine go_gR rfl rfl rfl rfl ?_
  refine go_t 0 rfl ?_
  dsimp only
  refine go_bastC (k := x) rfl rfl rfl rfl (by show (nI y).toInt8.toInt32.toInt8.toInt32 = nI y; rw [by_n (by omega), by_n (by omega)]) rfl (by omega) (by decide) ?_
  refine go_t 0 rfl ?_
  refine go_ret rfl ?_
  exact ⟨by rw [bI_t hok], F, f, D, _, R, n, s, rfl, hCI, by omega, by omega⟩
abbrev okValue (a b c : Int32) : Prop := (0 ≤ a ∧ a ≤ 7) ∧ (0 ≤ b ∧ b ≤ 5) ∧ 0 ≤ c ∧ c ≤ 99
def uValue (P : Nat → Nat → Int32) (a b c : Int32) : Nat → Nat → Int32 := if okValue a b c then wr P 330 (6 * a.toNatClampNeg + b.toNatClampNeg) c else P
theorem mo24 (a b c : Int32) : MoOK P (uValue P a b c) 167 [.int a, .int b, .int c] (.int (bI (okValue a b c))) := by
  intro L D C M R n s hP
  refine ev_in rfl ?_
  refine go_t 0 rfl ?_
  refine go_pM rfl rfl rfl rfl ?_
  refine go_t 0 rfl ?_
  refine go_f rfl rfl (t92 _ _ _ _) ?_
  refine go_br rfl (fun h13 => ?_) (fun h13 => ?_)
  · skip
    replace h13 := bI_0.mp h13
    refine go_t 0 rfl ?_
    refine go_ret rfl ?_
    exact ⟨by rw [bI_f (fun q => h13 q.1)], _, rfl, by rw [pr_wr rfl, hP, uValue, if_neg (fun q => h13 q.1)]⟩
  replace h13 := bI_n0.mp h13
  refine go_t 0 rfl ?_
  refine go_f rfl rfl (t92 _ _ _ _) ?_
  refine go_br rfl (fun h23 => ?_) (fun h23 => ?_)
  · skip
    replace h23 := bI_0.mp h23
    refine go_t 0 rfl ?_
    refine go_ret rfl ?_
    exact ⟨by rw [bI_f (fun q => h23 q.2.1)], _, rfl, by rw [pr_wr rfl, hP, uValue, if_neg (fun q => h23 q.2.1)]⟩
  replace h23 := bI_n0.mp h23
  refine go_t 0 rfl ?_
  refine go_f rfl rfl (t92 _ _ _ _) ?_
  refine go_br rfl (fun h34 => ?_) (fun h34 => ?_)
  rotate_left
  · skip
    replace h34 := bI_0.mp (Decidable.not_not.mp h34)
    refine go_t 0 rfl ?_
    refine go_ret rfl ?_
    exact ⟨by rw [bI_f (fun q => h34 q.2.2)], _, rfl, by rw [pr_wr rfl, hP, uValue, if_neg (fun q => h34 q.2.2)]⟩
  replace h34 := bI_n0.mp h34
  have e0 : uValue P a b c = wr P 330 (6 * a.toNatClampNeg + b.toNatClampNeg) c := by rw [uValue, if_pos ⟨h13, h23, h34⟩]
  obtain ⟨x, hx, rfl⟩ := in_n 7 (N := 7) rfl h13
  obtain ⟨y, hy, rfl⟩ := in_n 5 (N := 5) rfl h23
  rw [nI_clamp (by omega), nI_clamp (by omega)] at e0
  have hp : per 330 (6 * x + y) = true := by simp [per]
  have ej : (6 : Int32) * nI x + nI y = nI (6 * x + y) := by rw [show (6 : Int32) * nI x = nI (6 * x) from pk_mul 6 x, nI_add]
  refine go_t 0 rfl ?_
  refine go_gR rfl rfl rfl rfl ?_
  refine go_t 0 rfl ?_
  dsimp only
  refine go_iastM (k := 6 * x + y) rfl rfl rfl ej (by omega) (by decide) ?_
  refine go_t 0 rfl ?_
  refine go_ret rfl ?_
  exact ⟨by rw [bI_t ⟨h13, h23, h34⟩], _, rfl, by rw [pr_wrp hp, pr_wr rfl, hP, e0]⟩
theorem co24 (a b c : Int32) : CoOK P (uValue P a b c) 77 [.int a, .int b, .int c] (.int (bI (okValue a b c))) := by
  intro xs F f L D C M R n s h
  have hV := h.1
  obtain ⟨w1, w2, w3, w4, w5, ⟨p1, p2⟩, w7, w8⟩ := hV
  have o := h.2.2.1
  refine ev_in rfl ?_
  refine go_t 0 rfl ?_
  refine go_f rfl rfl (t37 _ _ _) ?_
  refine go_br rfl (fun h7 => ?_) (fun h7 => ?_)
  · skip
    replace h7 := bI_0.mp h7
    refine go_t 0 rfl ?_
    refine go_ret rfl ?_
    exact ⟨by rw [bI_f (fun q => h7 q.1)], F, f, D, C, R, n, s, rfl, by rw [uValue, if_neg (fun q => h7 q.1)]; exact h, by omega, by omega⟩
  replace h7 := bI_n0.mp h7
  refine go_t 0 rfl ?_
  refine go_f rfl rfl (t74 _) ?_
  refine go_br rfl (fun h14 => ?_) (fun h14 => ?_)
  · skip
    replace h14 := bI_0.mp h14
    refine go_t 0 rfl ?_
    refine go_ret rfl ?_
    exact ⟨by rw [bI_f (fun q => h14 q.2.1)], F, f, D, C, R, n, s, rfl, by rw [uValue, if_neg (fun q => h14 q.2.1)]; exact h, by omega, by omega⟩
  replace h14 := bI_n0.mp h14
  refine go_t 0 rfl ?_
  refine go_f rfl rfl (t37 _ _ _) ?_
  refine go_br rfl (fun h24 => ?_) (fun h24 => ?_)
  rotate_left
  · skip
    replace h24 := bI_0.mp (Decidable.not_not.mp h24)
    refine go_t 0 rfl ?_
    refine go_ret rfl ?_
    exact ⟨by rw [bI_f (fun q => h24 q.2.2)], F, f, D, C, R, n, s, rfl, by rw [uValue, if_neg (fun q => h24 q.2.2)]; exact h, by omega, by omega⟩
  replace h24 := bI_n0.mp h24
  have e0 : uValue P a b c = wr P 330 (6 * a.toNatClampNeg + b.toNatClampNeg) c := by rw [uValue, if_pos ⟨h7, h14, h24⟩]
  have hok : okValue a b c := ⟨h7, h14, h24⟩
  obtain ⟨x, hx, rfl⟩ := in_n 7 (N := 7) rfl h7
  obtain ⟨y, hy, rfl⟩ := in_n 5 (N := 5) rfl h14
  obtain ⟨z, hz, rfl⟩ := in_n 99 (N := 99) rfl h24
  rw [nI_clamp (by omega), nI_clamp (by omega)] at e0
  have hrow : rf R 296 x = some (297 + x) := by
    match x, hx with
    | 0, _ => rfl
    | 1, _ => rfl
    | 2, _ => rfl
    | 3, _ => rfl
    | 4, _ => rfl
    | 5, _ => rfl
    | 6, _ => rfl
    | 7, _ => rfl
  have hk : kf L D (297 + x) = (100, 6) := by
    match x, hx with
    | 0, _ => rfl
    | 1, _ => rfl
    | 2, _ => rfl
    | 3, _ => rfl
    | 4, _ => rfl
    | 5, _ => rfl
    | 6, _ => rfl
    | 7, _ => rfl
  have hcw : cw (297 + x) = true := by
    match x, hx with
    | 0, _ => rfl
    | 1, _ => rfl
    | 2, _ => rfl
    | 3, _ => rfl
    | 4, _ => rfl
    | 5, _ => rfl
    | 6, _ => rfl
    | 7, _ => rfl
  have hCI : CI trT xs (uValue P (nI x) (nI y) (nI z)) F f L D (wr C (297 + x) y (nI z)) R n := by
    rw [e0]
    have hV' : VP (wr P 330 (6 * x + y) (nI z)) := ⟨w1, w2, w3, w4, w5, ⟨p1, fun p b hp hb => by
      by_cases e : 6 * p + b = 6 * x + y
      · rw [e]; exact ⟨z, by omega, wrs ..⟩
      · rw [wrk e]; exact p2 p b hp hb⟩, w7, w8⟩
    refine h.same (HP.wr rfl) hV' (fun q k h1 h2 => by rw [wr_ne (by omega)]) ⟨by rw [wr_ne (by omega)], by rw [wr_ne (by omega)], by rw [wr_ne (by omega)], by rw [wr_ne (by omega)]⟩ (wr_ne (by omega)) ?_
    obtain ⟨o1, o2, o3, o4, o5, o6, o7, o8, o9⟩ := o
    have e281 : wr C (297 + x) y (nI z) 281 = C 281 := wr_ne (by omega)
    refine ⟨fun q hq => by rw [wr_ne (by omega)]; exact o1 q hq, by rw [e281]; exact o2, by rw [e281]; exact o3, by rw [e281]; exact o4, by rw [e281]; exact o5, fun k hk => by rw [wr_ne (by omega)]; exact o6 k hk, fun m hm => ?_, fun b hb => by rw [wr_ne (by omega)]; exact o8 b hb, fun p b hp hb => ?_⟩
    · exact (o7 m hm).kp (fun q hq => ⟨rfl, wr_ne (by have := h.2.1.2.2.2.2.2.2.1 q hq; omega), rfl, rfl⟩) (fun _ h => h) rfl
    · by_cases e : p = x
      · subst e
        by_cases e2 : b = y
        · subst e2; rw [wrs, wrs]
        · rw [wrk e2, wrk (by omega)]; exact o9 p b hp hb
      · rw [wr_ne (by omega), wrk (by omega)]; exact o9 p b hp hb
  refine go_t 0 rfl ?_
  refine go_gR rfl rfl rfl rfl ?_
  refine go_t 0 rfl ?_
  refine go_aald (k := x) rfl rfl rfl rfl (by omega) (by decide) hrow ?_
  refine go_t 0 rfl ?_
  refine go_bastC (k := y) rfl hk hcw rfl (by show (nI z).toInt8.toInt32.toInt8.toInt32 = nI z; rw [by_n (by omega), by_n (by omega)]) rfl (by omega) (by decide) ?_
  refine go_t 0 rfl (go_ret rfl ?_)
  exact ⟨by rw [bI_t hok], F, f, D, _, R, n, s, rfl, hCI, by omega, by omega⟩
end O0
