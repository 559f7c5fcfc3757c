/-! WHO BEATS WHOM; best -/
set_option maxRecDepth 100000
section O8
variable {d L n s : Nat} {D : Nat → Nat × Nat} {C M P : Nat → Nat → Int32} {R : Nat → Nat → Option Nat} {m : Mem} {xs : Nat → Int32} {F : Nat → Prop} {f : Nat → Nat}
/-- b beats a by rule r -/
abbrev btP (P : Nat → Nat → Int32) (r b a : Nat) : Prop := crP P r (supS P b a)
theorem sup_lt (hN : mN P ≤ 10) (a b : Nat) : supS P a b < 1024 := Nat.lt_of_le_of_lt (sub_le supN_sub) (iN_lt hN)
/-- the state among questions that beats asks: nothing new yet, or the game is there -/
def BS (xs : Nat → Int32) (P : Nat → Nat → Int32) (f : Nat → Nat) (L r n s : Nat) (D : Nat → Nat × Nat) (C : Nat → Nat → Int32) (R : Nat → Nat → Option Nat) (n' s' : Nat) : Prop :=
  ∃ F, CI trT xs P F f L D C R n' ∧ ((n' ≤ n ∧ s' ≤ s) ∨ (n' ≤ n + 3 ∧ s' ≤ s + 1034 ∧ Laid P C ∧ ∃ g, R 292 r = some g))
theorem BS.le {r n0 s0 : Nat} (h : BS xs P f L r n0 s0 D C R n s) : n ≤ n0 + 3 ∧ s ≤ s0 + 1034 := by
  obtain ⟨F, _, h | h⟩ := h
  · omega
  · exact ⟨h.1, h.2.1⟩
theorem BS.new (h : CI trT xs P F f L D C R n) (r : Nat) : BS xs P f L r n s D C R n s := ⟨F, h, Or.inl ⟨Nat.le_refl _, Nat.le_refl _⟩⟩
/-- transient ints written -/
theorem BS.put {r n0 s0 a k : Nat} {v : Int32} (h : BS xs P f L r n0 s0 D C R n s) (hw : wQ a k = true) (h7 : a ≠ 281 ∨ k ≠ 7) (h283 : a ≠ 283 ∧ a ≠ 284 ∧ a ≠ 285) (h337 : a < 337) : BS xs P f L r n0 s0 D (wr C a k v) R n s := by
  obtain ⟨F, h1, h2⟩ := h
  have e7 : wr C a k v 281 7 = C 281 7 := by
    rcases h7 with q | q
    · rw [wr_ne (fun z => q z.symm)]
    · by_cases e : a = 281
      · subst e; exact wrk (fun z => q z.symm)
      · rw [wr_ne (fun z => e z.symm)]
  have e3 : wr C a k v 283 = C 283 := wr_ne (fun z => h283.1 z.symm)
  have e4 : wr C a k v 284 = C 284 := wr_ne (fun z => h283.2.1 z.symm)
  have e5 : wr C a k v 285 = C 285 := wr_ne (fun z => h283.2.2 z.symm)
  have hl : ∀ {C0 : Nat → Nat → Int32}, Laid P C → Laid P (wr C a k v) := fun q => q.fr e7 e3 e4 e5
  refine ⟨F, h1.tr (fun b j _ hb => ?_) (fun b hb => wr_ne (by omega)) (fun _ _ => rfl) ?_, ?_⟩
  · by_cases e : b = a
    · subst e; exact wrk (fun z => by subst z; rw [hw] at hb; cases hb)
    · rw [wr_ne e]
  · rcases h1.2.1.2.2.1 with q | q
    · exact Or.inl (e7.trans q)
    · exact Or.inr (hl (C0 := C) q)
  · rcases h2 with q | ⟨q1, q2, q3, q4⟩
    · exact Or.inl q
    · exact Or.inr ⟨q1, q2, hl (C0 := C) q3, q4⟩
/-- a game that is there -/
theorem t52g {r g : Nat} (h : CI trT xs P F f L D C R n) (hr : r < 4) (hg : R 292 r = some g) : Ev d 52 [.ref 281, .int (nI r)] (mk L D C M R n s) (Rt (Is (some (.ref g)) (mk L D C M R n s))) := by
  have e1 : rf R 292 r = some g := by rw [rf_op rfl]; exact hg
  have hGo := (h.game hr hg).1.1
  refine ev_in rfl ?_
  refine go_t 0 rfl ?_
  refine go_gR rfl rfl rfl rfl ?_
  refine go_t 0 rfl ?_
  refine go_aald (k := r) rfl rfl rfl rfl (by omega) (by decide) e1 ?_
  refine go_ifnon rfl hGo.k rfl ?_
  refine go_t 0 rfl ?_
  refine go_gR rfl rfl rfl rfl ?_
  refine go_t 0 rfl ?_
  refine go_aald (k := r) rfl rfl rfl rfl (by omega) (by decide) e1 ?_
  refine go_ret rfl ?_
  exact ⟨rfl, rfl⟩
/-- supporters: what is kept -/
theorem t66x (h : CI trT xs P F f L D C R n) {a b : Nat} (ha : a < 6) (hb : b < 6) : Ev (d + 7) 66 [.ref 281, .int (nI a), .int (nI b)] (mk L D C M R n s) (Rt (fun v m' => v = some (.int (nI (supS P a b))) ∧ ∃ C', m' = mk L D C' M R n s ∧ CI trT xs P F f L D C' R n ∧ Laid P C' ∧ (∀ a k, a < 337 → wV a k = false → C' a k = C a k) ∧ (Laid P C → C' = C))) := by
  by_cases hl : Laid P C
  · refine go_post (t66 (d := d + 5) h hl ha hb) (fun q hq => ?_)
    obtain ⟨o, mm⟩ := q
    cases o with
    | inr a => exact hq.elim
    | inl v => exact ⟨hq.1, C, hq.2, h, hl, fun _ _ _ _ => rfl, fun _ => rfl⟩
  · have hA := h.2.1
    have h0 : C 281 7 = 0 := hA.2.2.1.resolve_right hl
    refine ev_in rfl ?_
    refine go_t 5 rfl ?_
    refine go_t 0 rfl (go_nx rfl ?_)
    refine go_t 0 rfl ?_
    have hh : Ev (d + 6) 41 [.ref 281, .int (nI 0)] (mk L D C M R n s) (Rt (fun w m' => w = some (.int (bI (hereP P (nI 0)))) ∧ ∃ C', m' = mk L D C' M R n s ∧ CI trT xs P F f L D C' R n ∧ Laid P C' ∧ ∀ a k, a < 337 → wV a k = false → C' a k = C a k)) := by
      have hX := iN_lt h.1.1.2.1
      refine ev_in rfl ?_
      refine go_t 0 rfl (go_f rfl rfl (t37 _ _ _) ?_)
      refine go_nx rfl ?_
      refine go_t 0 rfl ?_
      refine go_c (d := d + 5) rfl rfl (t42 (d := d + 1) hA.1 hA.2.2.2.1 hA.2.2.2.2.1 hA.2.1 hA.2.2.1) (fun v1 m1 hq1 => ?_)
      obtain ⟨rfl, C1, rfl, hF1, hL1⟩ := hq1
      have h1 : CI trT xs P F f L D C1 R n := h.tr (fun a k h1 h2 => hF1 a k (wV_wQ h2)) (fun a ha => funext fun k => hF1 a k (wV_hi (by omega))) (fun _ _ => rfl) (Or.inr hL1)
      refine go_gI rfl rfl rfl rfl ?_
      rw [hL1.2.1]
      refine go_t 0 rfl ?_
      refine go_br rfl (fun h22 => ?_) (fun h22 => ?_)
      · refine go_t 0 rfl (go_ret rfl ?_)
        exact ⟨by rw [bI_f (fun q => h22 ((bit_n hX (by decide)).mpr ((here_k (k := 0) (by decide)).mp q)))], C1, rfl, h1, hL1, fun a k _ h => hF1 a k h⟩
      · refine go_t 0 rfl (go_ret rfl ?_)
        exact ⟨by rw [bI_t ((here_k (k := 0) (by decide)).mpr ((bit_n hX (by decide)).mp (Decidable.not_not.mp h22)))], C1, rfl, h1, hL1, fun a k _ h => hF1 a k h⟩
    refine go_c (d := d + 6) rfl rfl hh (fun v1 m1 hq1 => ?_)
    obtain ⟨rfl, C1, rfl, h1, hL, hfr⟩ := hq1
    refine t66B (d := d + 5) (k := 0) h1 ha hb (by decide) ?_
    refine go_post (t66L (d := d + 5) h1 hL ha hb 9 1 rfl) (fun q hq => ?_)
    obtain ⟨o, mm⟩ := q
    cases o with
    | inr a => exact hq.elim
    | inl v => exact ⟨hq.1, C1, hq.2, h1, hL, hfr, fun q => absurd q hl⟩
/-- beats -/
theorem t69 {r x y n0 s0 : Nat} (h : BS xs P f L r n0 s0 D C R n s) (hr : r < 4) (hx : x < 6) (hy : y < 6) : Ev (d + 203) 69 [.ref 281, .int (nI r), .int (nI x), .int (nI y)] (mk L D C M R n s)
    (Rt (fun v m' => v = some (.int (bI (btP P r x y))) ∧ ∃ D' C' R' n' s', m' = mk L D' C' M R' n' s' ∧ BS xs P f L r n0 s0 D' C' R' n' s' ∧ ∀ a k, a < 337 → a ≠ 291 → wV a k = false → C' a k = C a k)) := by
  obtain ⟨F, hC, hS⟩ := h
  have hN := hC.1.1.2.1
  have hlt := sup_lt hN x y
  have fin : ∀ (F1 : Nat → Prop) D1 C1 R1 n1 s1 g, CI trT xs P F1 f L D1 C1 R1 n1 → R1 292 r = some g → n1 ≤ n0 + 3 → s1 ≤ s0 + 1034 → (∀ a k, a < 337 → a ≠ 291 → wV a k = false → C1 a k = C a k) →
      Go (d + 203) 69 5 [some (.ref 281), some (.int (nI r)), some (.int (nI x)), some (.int (nI y))] [.ref g] (mk L D1 C1 M R1 n1 s1) (Rt (fun v m' => v = some (.int (bI (btP P r x y))) ∧ ∃ D' C' R' n' s', m' = mk L D' C' M R' n' s' ∧ BS xs P f L r n0 s0 D' C' R' n' s' ∧ ∀ a k, a < 337 → a ≠ 291 → wV a k = false → C' a k = C a k)) := fun F1 D1 C1 R1 n1 s1 g h1 hg hn hs hfr => by
    obtain ⟨o, q1, q2, q3, q4, q5, q6, c, t, q7, q8, q9, q10, q11, q12⟩ := (h1.game hr hg).1
    have hcv : rf R1 g 2 = some c := by rw [o.R]; exact q7
    refine go_gR rfl o.k rfl hcv ?_
    refine go_t 0 rfl ?_
    refine go_c (d := d + 202) rfl rfl (t66x (d := d + 195) h1 hx hy) (fun v2 m2 hq2 => ?_)
    obtain ⟨rfl, C2, rfl, h2, hL2, hfr2, _⟩ := hq2
    obtain ⟨o', q1', q2', q3', q4', q5', q6', c', t', q7', q8', q9', q10', q11', q12'⟩ := (h2.game hr hg).1
    rw [q7] at q7'
    cases q7'
    refine go_aldC (k := supS P x y) rfl q8'.k q8'.m rfl rfl hlt (by decide) ?_
    rw [q11' _ hlt]
    refine go_rtb rfl retOK_bI ?_
    exact ⟨rfl, D1, C2, R1, n1, s1, rfl, ⟨F1, h2, Or.inr ⟨hn, hs, hL2, g, hg⟩⟩, fun a k h1 h2 h3 => by rw [hfr2 a k h1 h3]; exact hfr a k h1 h2 h3⟩
  refine ev_in rfl ?_
  refine go_t 0 rfl ?_
  rcases hS with ⟨s1, s2⟩ | ⟨s1, s2, s3, g, s4⟩
  · refine go_c (d := d + 202) rfl rfl (t52x (d := d) hC hr) (fun v2 m2 hq2 => ?_)
    obtain ⟨g, F', D', C', R', n', s', rfl, rfl, h2, hL2, hg, hn2, hs2, hfr⟩ := hq2
    exact fin F' D' C' R' n' s' g h2 hg (by omega) (by omega) hfr
  · refine go_f (d := d + 202) rfl rfl (t52g hC hr s4) ?_
    exact fin F D C R n s g hC s4 (by omega) (by omega) (fun _ _ _ _ _ => rfl)
end O8
