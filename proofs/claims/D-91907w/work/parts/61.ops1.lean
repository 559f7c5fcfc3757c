/-! OPERATIONS: of, look, carries, leasts, least -/
set_option maxRecDepth 100000
section O1
variable {d L n s : Nat} {D : Nat → Nat × Nat} {C M P : Nat → Nat → Int32} {R : Nat → Nat → Option Nat} {m : Mem} {xs : Nat → Int32} {F : Nat → Prop} {f : Nat → Nat}
/-- a bloc of one who is in -/
theorem bl6 (hV : VP P) {dk kn : Int32} {k : Nat} (hk : k < mN P) (h : ¬ blS P dk kn k = -1) : ∃ j, j < 6 ∧ blS P dk kn k = nI j := by
  unfold blS at h ⊢
  cases hb : bst P dk kn (nI k) (sN P) with
  | none => rw [hb] at h; exact absurd rfl h
  | some i =>
    rw [hb] at h
    rcases hV.2.2.1.1 i (bst_lt hb) with z | ⟨b, z1, z2⟩
    · exact absurd z h
    · exact ⟨b, z1, z2⟩
/-- the Model's blocsIn -/
theorem t99 (hV : VP P) {dk kn : Int32} (hN : M 305 1 = nI (mN P)) (hH : HsM P dk kn M) : Ev (d + 1) 99 [.ref 305] (mk L D C M R n s) (Rt (Is (some (.int (nI (bcN (inN P dk kn (mN P)) (blS P dk kn) (mN P))))) (mk L D C M R n s))) := by
  have h10 := hV.1.2.1
  have hX := inN_1024 (P := P) (dk := dk) (kn := kn) h10
  obtain ⟨k1, k2, k3, k4⟩ := hH
  refine ev_in rfl ?_
  refine go_t 4 rfl ?_
  refine go_for (mN P) (fun k Lc m => Lc = [some (.ref 305), some (.int (nI (bcN (inN P dk kn (mN P)) (blS P dk kn) k))), some (.int (nI k))] ∧ m = mk L D C M R n s) ⟨rfl, rfl⟩ ?_ ?_
  · rintro k _ _ hk ⟨rfl, rfl⟩ kk
    have fin : ∀ q, q = bcN (inN P dk kn (mN P)) (blS P dk kn) (k + 1) → Go (d + 1) 99 35 [some (.ref 305), some (.int (nI q)), some (.int (nI k))] [] (mk L D C M R n s) _ := fun q hq => by
      subst hq
      refine go_t 4 rfl (kk _ _ ⟨?_, rfl⟩)
      rw [← nI_1]
    refine go_t 0 rfl ?_
    refine go_gM rfl rfl rfl rfl ?_
    refine go_bf rfl (by rw [hN]; exact nI_ge hk (by omega)) ?_
    refine go_t 0 rfl ?_
    refine go_gM rfl rfl rfl rfl ?_
    rw [k1]
    refine go_t 0 rfl ?_
    refine go_f rfl rfl (t97 _ _ _) ?_
    refine go_br rfl (fun h21 => ?_) (fun h21 => ?_)
    · skip
      replace h21 := bI_0.mp h21
      exact fin _ (by rw [bcN, if_neg (fun q => h21 ((bit_n hX (by omega)).mpr q))])
    · skip
      replace h21 := bI_n0.mp h21
      refine go_t 0 rfl ?_
      refine go_gR rfl rfl rfl rfl ?_
      refine go_t 0 rfl ?_
      refine go_aldM rfl rfl rfl rfl rfl (by omega) (by decide) ?_
      have hh := inN_tb.mp ((bit_n hX (by omega)).mp h21)
      obtain ⟨j, hj, ej⟩ := bl6 hV hh.1 hh.2
      rw [(k4 k hk).1, ej]
      refine go_t 35 rfl ?_
      dsimp only
      rw [nI_with (by omega)]
      exact fin _ (by rw [bcN, if_pos ((bit_n hX (by omega)).mp h21), ej, nI_clamp (by omega)])
  · rintro _ _ ⟨rfl, rfl⟩
    refine go_t 0 rfl ?_
    refine go_gM rfl rfl rfl rfl ?_
    refine go_bt rfl (by rw [hN]; exact Int32.le_refl _) ?_
    refine go_t 0 rfl ?_
    refine go_ret rfl ?_
    exact ⟨rfl, rfl⟩
/-- who is in, in blocs -/
abbrev bN (P : Nat → Nat → Int32) : Nat := bcN (iN P) (blS P (P 305 8) (P 305 9)) (mN P)
def wLook (P : Nat → Nat → Int32) (a : Int32) : Int32 := if a = 0 then P 305 1 else if a = 1 then nI (iN P) else if a = 2 then P 305 2 else if a = 3 then nI (bN P) else if a = 4 then P 305 8 else if a = 5 then P 305 9 else -1
theorem mo4 (hV : VP P) (a : Int32) : MoOK P P 98 [.int a] (.int (wLook P a)) := by
  intro L D C M R n s hP
  refine ev_in rfl ?_
  refine go_t 0 rfl ?_
  refine go_pM rfl rfl rfl rfl ?_
  refine go_t 0 rfl ?_
  refine go_c rfl rfl (t95 (P := P) ((pr_wr rfl).trans hP) hV.1) (fun v6 m6 hq6 => ?_)
  obtain ⟨rfl, M1, rfl, hF, hH⟩ := hq6
  have hP1 : pr M1 = P := (hF.pr fun _ _ => wF_per).trans ((pr_wr rfl).trans hP)
  have e1 : M1 305 1 = P 305 1 := pr_rd hP1 rfl
  have e2 : M1 305 2 = P 305 2 := pr_rd hP1 rfl
  have e8 : M1 305 8 = P 305 8 := pr_rd hP1 rfl
  have e9 : M1 305 9 = P 305 9 := pr_rd hP1 rfl
  refine go_t 0 rfl ?_
  refine go_br rfl (fun h10 => ?_) (fun h10 => ?_)
  · skip
    refine go_t 0 rfl ?_
    refine go_br rfl (fun h20 => ?_) (fun h20 => ?_)
    · skip
      refine go_t 0 rfl ?_
      refine go_br rfl (fun h30 => ?_) (fun h30 => ?_)
      · skip
        refine go_t 0 rfl ?_
        refine go_br rfl (fun h40 => ?_) (fun h40 => ?_)
        · skip
          refine go_t 0 rfl ?_
          refine go_br rfl (fun h50 => ?_) (fun h50 => ?_)
          · skip
            refine go_t 0 rfl ?_
            refine go_br rfl (fun h60 => ?_) (fun h60 => ?_)
            · skip
              refine go_t 0 rfl ?_
              refine go_ret rfl ?_
              exact ⟨by rw [wLook, if_neg h10, if_neg h20, if_neg h30, if_neg h40, if_neg h50, if_neg h60], M1, rfl, hP1⟩
            · skip
              replace h60 := Decidable.not_not.mp h60
              refine go_t 0 rfl ?_
              refine go_gM rfl rfl rfl rfl ?_
              rw [e9]
              refine go_t 0 rfl ?_
              refine go_ret rfl ?_
              exact ⟨by rw [wLook, if_neg h10, if_neg h20, if_neg h30, if_neg h40, if_neg h50, if_pos h60], M1, rfl, hP1⟩
          · skip
            replace h50 := Decidable.not_not.mp h50
            refine go_t 0 rfl ?_
            refine go_gM rfl rfl rfl rfl ?_
            rw [e8]
            refine go_ret rfl ?_
            exact ⟨by rw [wLook, if_neg h10, if_neg h20, if_neg h30, if_neg h40, if_pos h50], M1, rfl, hP1⟩
        · skip
          replace h40 := Decidable.not_not.mp h40
          refine go_t 0 rfl ?_
          refine go_f rfl rfl (t99 hV (e1.trans hV.1.1) hH) ?_
          refine go_ret rfl ?_
          exact ⟨by rw [wLook, if_neg h10, if_neg h20, if_neg h30, if_pos h40], M1, rfl, hP1⟩
      · skip
        replace h30 := Decidable.not_not.mp h30
        refine go_t 0 rfl ?_
        refine go_gM rfl rfl rfl rfl ?_
        rw [e2]
        refine go_ret rfl ?_
        exact ⟨by rw [wLook, if_neg h10, if_neg h20, if_pos h30], M1, rfl, hP1⟩
    · skip
      replace h20 := Decidable.not_not.mp h20
      refine go_t 0 rfl ?_
      refine go_gM rfl rfl rfl rfl ?_
      rw [hH.1]
      refine go_ret rfl ?_
      exact ⟨by rw [wLook, if_neg h10, if_pos h20], M1, rfl, hP1⟩
  · skip
    replace h10 := Decidable.not_not.mp h10
    refine go_t 0 rfl ?_
    refine go_gM rfl rfl rfl rfl ?_
    rw [e1]
    refine go_ret rfl ?_
    exact ⟨by rw [wLook, if_pos h10], M1, rfl, hP1⟩
/-- house(): the invariant stays -/
theorem t42c (h : CI trT xs P F f L D C R n) : Ev (d + 4) 42 [.ref 281] (mk L D C M R n s) (Rt (fun v m' => v = some (.ref 283) ∧ ∃ C', m' = mk L D C' M R n s ∧ CI trT xs P F f L D C' R n ∧ Laid P C')) := by
  have hA := h.2.1
  refine go_post (t42 hA.1 hA.2.2.2.1 hA.2.2.2.2.1 hA.2.1 hA.2.2.1) (fun q hq => ?_)
  obtain ⟨o, mm⟩ := q
  cases o with
  | inr a => exact hq.elim
  | inl v =>
    obtain ⟨hv, C', hm, hF, hL⟩ := hq
    refine ⟨hv, C', hm, h.tr (fun a k h1 h2 => hF a k (wV_wQ h2)) (fun a ha => funext fun k => hF a k (wV_hi (by omega))) (fun _ _ => rfl) (Or.inr hL), hL⟩
theorem co4 (a : Int32) : CoOK P P 43 [.int a] (.int (wLook P a)) := by
  intro xs F f L D C M R n s h
  have hA := h.2.1
  obtain ⟨v1, v2, v3⟩ := hA.2.1
  obtain ⟨hLs, _⟩ := hA.2.2.2.1
  have hS2 : P 305 2 = nI (sN P) := hA.1.2.2.1
  refine ev_in rfl ?_
  by_cases h0 : a = 0
  · subst h0
    refine go_t 0 rfl ?_
    refine go_nx rfl ?_
    refine go_t 0 rfl ?_
    refine go_gI rfl rfl rfl rfl ?_
    rw [v1]
    refine go_ret rfl ?_
    exact ⟨rfl, F, f, D, C, R, n, s, rfl, h, by omega, by omega⟩
  by_cases h1 : a = 1
  · subst h1
    refine go_t 0 rfl ?_
    refine go_nx rfl ?_
    refine go_t 0 rfl ?_
    refine go_c rfl rfl (t42c h) (fun v46 m46 hq46 => ?_)
    obtain ⟨rfl, C1, rfl, h', hL⟩ := hq46
    refine go_gI rfl rfl rfl rfl ?_
    rw [hL.2.1]
    refine go_ret rfl ?_
    exact ⟨rfl, F, f, D, C1, R, n, s, rfl, h', by omega, by omega⟩
  by_cases h2 : a = 2
  · subst h2
    refine go_t 0 rfl ?_
    refine go_nx rfl ?_
    refine go_t 0 rfl ?_
    refine go_gR rfl rfl rfl rfl ?_
    refine go_f rfl rfl (t3 hLs) ?_
    refine go_ret rfl ?_
    exact ⟨by rw [← hS2]; rfl, F, f, D, C, R, n, s, rfl, h, by omega, by omega⟩
  by_cases h3 : a = 3
  · subst h3
    refine go_t 0 rfl ?_
    refine go_nx rfl ?_
    refine go_t 0 rfl ?_
    refine go_c rfl rfl (t42c h) (fun v62 m62 hq62 => ?_)
    obtain ⟨rfl, C1, rfl, h', hL⟩ := hq62
    refine go_f rfl rfl (t82 hA.1.2.1 ho283 hL.2 (fun k => bl6 h.1)) ?_
    refine go_ret rfl ?_
    exact ⟨rfl, F, f, D, C1, R, n, s, rfl, h', by omega, by omega⟩
  by_cases h4 : a = 4
  · subst h4
    refine go_t 0 rfl ?_
    refine go_nx rfl ?_
    refine go_t 0 rfl ?_
    refine go_gI rfl rfl rfl rfl ?_
    rw [v2]
    refine go_ret rfl ?_
    exact ⟨rfl, F, f, D, C, R, n, s, rfl, h, by omega, by omega⟩
  by_cases h5 : a = 5
  · subst h5
    refine go_t 0 rfl ?_
    refine go_nx rfl ?_
    refine go_t 0 rfl ?_
    refine go_gI rfl rfl rfl rfl ?_
    rw [v3]
    refine go_ret rfl ?_
    exact ⟨rfl, F, f, D, C, R, n, s, rfl, h, by omega, by omega⟩
  have e : wLook P a = -1 := by rw [wLook, if_neg h0, if_neg h1, if_neg h2, if_neg h3, if_neg h4, if_neg h5]
  rw [e]
  refine go_t 0 rfl ?_
  have hne : ∀ i : Nat, i < 6 → ¬ a = nI i := fun i hi q => by
    match i, hi with
    | 0, _ => exact h0 q
    | 1, _ => exact h1 q
    | 2, _ => exact h2 q
    | 3, _ => exact h3 q
    | 4, _ => exact h4 q
    | 5, _ => exact h5 q
  refine go_tsd (S := []) (x := a) rfl ?_ ?_
  · by_cases q : 0 ≤ a ∧ a ≤ 5
    · obtain ⟨x, hx, ex⟩ := in_n 5 (N := 5) rfl q
      exact absurd ex (hne x (by omega))
    · rw [Int32.le_iff_toInt_le, Int32.le_iff_toInt_le, show (0 : Int32).toInt = 0 from rfl, show (5 : Int32).toInt = 5 from rfl] at q
      omega
  · refine go_t 0 rfl (go_ret rfl ?_)
    exact ⟨rfl, F, f, D, C, R, n, s, rfl, h, by omega, by omega⟩
/-! carries -/
abbrev okCar (P : Nat → Nat → Int32) (a b : Int32) : Prop := (0 ≤ a ∧ a ≤ 3) ∧ 0 ≤ b ∧ b &&& (nI (iN P) ^^^ (-1)) = 0
def wCar (P : Nat → Nat → Int32) (a b : Int32) : Int32 := if okCar P a b then bI (crP P a.toNatClampNeg b.toNatClampNeg) else -1
theorem mo9 (hV : VP P) (a b : Int32) : MoOK P P 125 [.int a, .int b] (.int (wCar P a b)) := by
  intro L D C M R n s hP
  have hX := iN_lt hV.1.2.1
  refine ev_in rfl ?_
  refine go_t 0 rfl ?_
  refine go_pM rfl rfl rfl rfl ?_
  refine go_t 0 rfl ?_
  refine go_c rfl rfl (t95 (P := P) ((pr_wr rfl).trans hP) hV.1) (fun v6 m6 hq6 => ?_)
  obtain ⟨rfl, M1, rfl, hF, hH⟩ := hq6
  have hP1 : pr M1 = P := (hF.pr fun _ _ => wF_per).trans ((pr_wr rfl).trans hP)
  refine go_t 0 rfl ?_
  refine go_f rfl rfl (t104 _) ?_
  refine go_br rfl (fun h14 => ?_) (fun h14 => ?_)
  · skip
    replace h14 := bI_0.mp h14
    refine go_t 0 rfl ?_
    refine go_ret rfl ?_
    exact ⟨by rw [wCar, if_neg (fun q => h14 q.1)], M1, rfl, hP1⟩
  replace h14 := bI_n0.mp h14
  refine go_t 0 rfl ?_
  refine go_f rfl rfl (t126 _) ?_
  refine go_br rfl (fun h22 => ?_) (fun h22 => ?_)
  rotate_left
  · skip
    replace h22 := bI_0.mp (Decidable.not_not.mp h22)
    refine go_t 0 rfl ?_
    refine go_ret rfl ?_
    exact ⟨by rw [wCar, if_neg (fun q => h22 (by rw [hH.1]; exact q.2))], M1, rfl, hP1⟩
  replace h22 := bI_n0.mp h22
  rw [hH.1] at h22
  have e0 : wCar P a b = bI (crP P a.toNatClampNeg b.toNatClampNeg) := by rw [wCar, if_pos ⟨h14, h22⟩]
  obtain ⟨r, hr, rfl⟩ := ru_of h14
  obtain ⟨S, rfl, hS, hsub⟩ := (isSet_n hX).mp h22
  rw [nI_clamp (by omega), nI_clamp (by omega)] at e0
  have e1 : bI (carP P (P 305 8) (P 305 9) r S) = bI (crP P r S) := bI_iff ⟨fun q => ⟨hsub, q⟩, fun q => q.2⟩
  refine go_t 0 rfl ?_
  refine go_c rfl rfl (t127 hP1 hV.1 hV.2.1 hH hr hS) (fun v30 m30 hq30 => ?_)
  obtain ⟨rfl, g, rfl⟩ := hq30
  refine go_br rfl (fun h33 => ?_) (fun h33 => ?_)
  · skip
    replace h33 := bI_0.mp h33
    refine go_t 0 rfl ?_
    refine go_ret rfl ?_
    exact ⟨by rw [e0, ← e1, bI_f h33], _, rfl, (pr_fu fun _ => rfl).trans hP1⟩
  · skip
    replace h33 := bI_n0.mp h33
    refine go_t 0 rfl ?_
    refine go_ret rfl ?_
    exact ⟨by rw [e0, ← e1, bI_t h33], _, rfl, (pr_fu fun _ => rfl).trans hP1⟩
/-- isSet -/
theorem t51c (h : CI trT xs P F f L D C R n) (v : Int32) : Ev (d + 5) 51 [.ref 281, .int v] (mk L D C M R n s) (Rt (fun w m' => w = some (.int (bI (0 ≤ v ∧ v &&& (nI (iN P) ^^^ (-1)) = 0))) ∧ ∃ C', m' = mk L D C' M R n s ∧ CI trT xs P F f L D C' R n ∧ (0 ≤ v → Laid P C'))) := by
  refine ev_in rfl ?_
  refine go_t 0 rfl ?_
  refine go_br rfl (fun h1 => ?_) (fun h1 => ?_)
  · skip
    refine go_t 0 rfl (go_ret rfl ?_)
    exact ⟨by rw [bI_f (fun q => absurd q.1 (Int32.not_le.mpr h1))], C, rfl, h, fun q => absurd q (Int32.not_le.mpr h1)⟩
  · skip
    refine go_t 0 rfl ?_
    refine go_c rfl rfl (t42c h) (fun v6 m6 hq6 => ?_)
    obtain ⟨rfl, C1, rfl, h', hL⟩ := hq6
    refine go_gI rfl rfl rfl rfl ?_
    rw [hL.2.1]
    refine go_t 0 rfl ?_
    dsimp only
    refine go_br rfl (fun h15 => ?_) (fun h15 => ?_)
    · skip
      refine go_t 0 rfl (go_ret rfl ?_)
      exact ⟨by rw [bI_f (fun q => h15 q.2)], C1, rfl, h', fun _ => hL⟩
    · skip
      replace h15 := Decidable.not_not.mp h15
      refine go_t 0 rfl ?_
      refine go_ret rfl ?_
      exact ⟨by rw [bI_t ⟨Int32.not_lt.mp h1, h15⟩], C1, rfl, h', fun _ => hL⟩
theorem CI.game (h : CI trT xs P F f L D C R n) {r g : Nat} (hr : r < 4) (hg : R 292 r = some g) : GaR P F L D C R n r g ∧ GaX P C R (trT P r) g := by
  rcases h.2.2.2.1.1 r hr with z | ⟨g', z1, z2, z3⟩
  · rw [z] at hg; cases hg
  · rw [z1] at hg; cases hg; exact ⟨z2, z3⟩
theorem co9 (a b : Int32) : CoOK P P 50 [.int a, .int b] (.int (wCar P a b)) := by
  intro xs F f L D C M R n s h
  have hX := iN_lt h.1.1.2.1
  refine ev_in rfl ?_
  refine go_t 0 rfl ?_
  refine go_f rfl rfl (t48 _) ?_
  refine go_br rfl (fun h4 => ?_) (fun h4 => ?_)
  · skip
    replace h4 := bI_0.mp h4
    refine go_t 0 rfl (go_ret rfl ?_)
    exact ⟨by rw [wCar, if_neg (fun q => h4 q.1)], F, f, D, C, R, n, s, rfl, h, by omega, by omega⟩
  replace h4 := bI_n0.mp h4
  refine go_t 0 rfl ?_
  refine go_c rfl rfl (t51c (d := 1493) h b) (fun v9 m9 hq9 => ?_)
  obtain ⟨rfl, C1, rfl, h', hL⟩ := hq9
  refine go_br rfl (fun h12 => ?_) (fun h12 => ?_)
  rotate_left
  · skip
    replace h12 := bI_0.mp (Decidable.not_not.mp h12)
    refine go_t 0 rfl (go_ret rfl ?_)
    exact ⟨by rw [wCar, if_neg (fun q => h12 q.2)], F, f, D, C1, R, n, s, rfl, h', by omega, by omega⟩
  replace h12 := bI_n0.mp h12
  have e0 : wCar P a b = bI (crP P a.toNatClampNeg b.toNatClampNeg) := by rw [wCar, if_pos ⟨h4, h12⟩]
  obtain ⟨r, hr, rfl⟩ := ru_of h4
  obtain ⟨S, rfl, hS, hsub⟩ := (isSet_n hX).mp h12
  rw [nI_clamp (by omega), nI_clamp (by omega)] at e0
  refine go_t 0 rfl ?_
  refine go_c (d := 1498) rfl rfl (t52 (d := 1296) h' hr) (fun v2 m2 hq2 => ?_)
  obtain ⟨g, F', D', C', R', n', s', rfl, rfl, h2, hL2, hg, hn2, hs2⟩ := hq2
  obtain ⟨o, q1, q2, q3, q4, q5, q6, c, t, q7, q8, q9, q10, q11, q12⟩ := (h2.game hr hg).1
  have hc : rf R' g 2 = some c := by rw [o.R]; exact q7
  have hcar := q11 S hS
  refine go_gR rfl o.k rfl hc ?_
  refine go_t 0 rfl ?_
  refine go_aldC (k := S) rfl q8.k q8.m rfl rfl hS (by decide) ?_
  rw [hcar]
  refine go_br rfl (fun h29 => ?_) (fun h29 => ?_)
  · refine go_t 0 rfl (go_ret rfl ?_)
    exact ⟨by rw [e0, bI_f (bI_0.mp h29)], F', f, D', C', R', n', s', rfl, h2, by omega, by omega⟩
  · refine go_t 0 rfl (go_ret rfl ?_)
    exact ⟨by rw [e0, bI_t (bI_n0.mp h29)], F', f, D', C', R', n', s', rfl, h2, by omega, by omega⟩
/-! least sets -/
/-- is(set, stopping) of a game: w = 1 for stopping -/
theorem t217 {r g S w : Nat} (hG : GaR P F L D C R n r g) (hN : mN P ≤ 10) (hS : S < 1024) (hw : w < 2) : Ev d 217 [.ref g, .int (nI S), .int (nI w)] (mk L D C M R n s) (Rt (Is (some (.int (bI (dsP (crP P r) (iN P) (nI w) S)))) (mk L D C M R n s))) := by
  have hX := iN_lt hN
  obtain ⟨o, q1, q2, q3, q4, q5, q6, c, t, q7, q8, q9, q10, q11, q12⟩ := hG
  have hc : rf R g 2 = some c := by rw [o.R]; exact q7
  have hlt : nsub (iN P) S < 1024 := nsub_lt hX
  have e1 := q11 S hS
  have e2 := q11 (nsub (iN P) S) hlt
  refine ev_in rfl ?_
  rcases (show w = 0 ∨ w = 1 by omega) with rfl | rfl
  · skip
    refine go_t 0 rfl ?_
    refine go_nx rfl ?_
    refine go_t 0 rfl ?_
    refine go_gR rfl o.k rfl hc ?_
    refine go_t 0 rfl ?_
    refine go_aldC (k := S) rfl q8.k q8.m rfl rfl (by omega) (by decide) ?_
    rw [e1]
    refine go_rtb rfl retOK_bI ?_
    exact ⟨by rw [bI_iff (show dsP (crP P r) (iN P) (nI 0) S ↔ crP P r S by rw [dsP, if_pos (show nI 0 = 0 from rfl)])], rfl⟩
  · have hd : dsP (crP P r) (iN P) (nI 1) S ↔ ¬ crP P r (nsub (iN P) S) := by rw [dsP, if_neg (by decide)]
    refine go_t 0 rfl ?_
    refine go_nx rfl ?_
    refine go_t 0 rfl ?_
    refine go_gR rfl o.k rfl hc ?_
    refine go_t 0 rfl ?_
    refine go_gI rfl o.k o.m rfl ?_
    rw [q4]
    refine go_t 0 rfl ?_
    dsimp only
    refine go_aldC (k := nsub (iN P) S) rfl q8.k q8.m rfl (nI_not _ _) (by omega) (by decide) ?_
    rw [e2]
    refine go_br rfl (fun h17 => ?_) (fun h17 => ?_)
    · skip
      refine go_t 0 rfl ?_
      refine go_ret rfl ?_
      exact ⟨by rw [bI_f (fun q => hd.mp q (bI_n0.mp h17))], rfl⟩
    · skip
      replace h17 := Decidable.not_not.mp h17
      refine go_t 0 rfl ?_
      refine go_ret rfl ?_
      exact ⟨by rw [bI_t (hd.mpr (bI_0.mp h17))], rfl⟩
/-- some lesser part does -/
abbrev bwP (p : Nat → Prop) (S : Nat) : Prop := ¬ ∀ q, q < S → nsub q S = 0 → ¬ p q
/-- of the first k members: some part without one of them does, or has a part that does -/
abbrev bwK (p : Nat → Prop) [DecidablePred p] (S k : Nat) : Prop := ¬ ∀ m, m < k → S.testBit m = true → ¬ (bwP p (nsub S (2 ^ m)) ∨ p (nsub S (2 ^ m)))
theorem bwK_s {p : Nat → Prop} [DecidablePred p] {S k : Nat} : bwK p S (k + 1) ↔ bwK p S k ∨ (S.testBit k = true ∧ (bwP p (nsub S (2 ^ k)) ∨ p (nsub S (2 ^ k)))) := by
  constructor
  · intro h
    refine Decidable.byContradiction fun z => h fun m hm hb hq => ?_
    rcases Nat.lt_succ_iff_lt_or_eq.mp hm with q | q
    · exact z (Or.inl fun hall => hall m q hb hq)
    · subst q; exact z (Or.inr ⟨hb, hq⟩)
  · rintro (h | ⟨h1, h2⟩) hall
    · exact h fun m hm => hall m (by omega)
    · exact hall k (by omega) h1 h2
theorem nsub_pow_lt {S m : Nat} (h : S.testBit m = true) : nsub S (2 ^ m) < S := by
  have h1 : nsub S (2 ^ m) ≤ S := nsub_le
  rcases Nat.lt_or_eq_of_le h1 with h2 | h2
  · exact h2
  · have := congrArg (fun z => Nat.testBit z m) h2
    simp only [nsub_tb, h, Nat.testBit_two_pow_self] at this
    cases this
theorem nsub_part {q S m : Nat} (hq : nsub q S = 0) (hm : q.testBit m = false) : nsub q (nsub S (2 ^ m)) = 0 := nsub_0.mpr fun i hi => by
  rw [nsub_tb, nsub_0.mp hq i hi, Bool.true_and, Bool.not_eq_true', Nat.testBit_two_pow, decide_eq_false_iff_not]
  rintro rfl
  rw [hm] at hi
  cases hi
theorem bw_10 {p : Nat → Prop} [DecidablePred p] {S : Nat} (hS : S < 1024) : bwK p S 10 ↔ bwP p S := by
  constructor
  · intro hK hall
    refine hK fun m hm hb h => ?_
    have hlt := nsub_pow_lt hb
    rcases h with h | h
    · exact h (fun q h1 h2 => hall q (by omega) (sub_tr h2 nsub_sub))
    · exact hall _ hlt nsub_sub h
  · intro h
    obtain ⟨q, h1, h2, h3⟩ : ∃ q, q < S ∧ nsub q S = 0 ∧ p q := by
      refine Decidable.byContradiction fun z => h (fun q h1 h2 h3 => z ⟨q, h1, h2, h3⟩)
    obtain ⟨m, hm⟩ : ∃ m, S.testBit m = true ∧ q.testBit m = false := by
      refine Classical.byContradiction fun z => ?_
      have : nsub S q = 0 := nsub_0.mpr fun i hi => by
        cases hq : q.testBit i with
        | true => rfl
        | false => exact absurd ⟨i, hi, hq⟩ z
      have := sub_le this
      omega
    have hm10 : m < 10 := by
      refine Decidable.byContradiction fun z => ?_
      rw [tb_hi hS (by omega)] at hm
      exact absurd hm.1 (by decide)
    have hp := nsub_part h2 hm.2
    refine fun hK => hK m hm10 hm.1 ?_
    by_cases e : q = nsub S (2 ^ m)
    · exact Or.inr (by rw [← e]; exact h3)
    · have := sub_le hp
      exact Or.inl (fun hall => hall q (by omega) hp h3)
theorem least_lt {P : Nat → Nat → Int32} {r : Nat} {w : Int32} {k j : Nat} : ∀ {i : Nat}, ithN (mlP P r w) i j = some k → k < j := by
  intro i h
  induction j with
  | zero => cases h
  | succ j ih =>
    rw [ithN] at h
    cases hq : ithN (mlP P r w) i j with
    | some x => rw [hq] at h; cases h; have := ih hq; omega
    | none =>
      rw [hq] at h
      dsimp only at h
      split at h
      · cases h; omega
      · cases h
/-- least: how many for none, or the i-th -/
def lsW (P : Nat → Nat → Int32) (r w : Nat) (i : Int32) : Int32 := if i = -1 then nI (ctN (mlP P r (nI w)) 1024) else if 0 ≤ i then oi (ithN (mlP P r (nI w)) i.toNatClampNeg 1024) else -1
theorem t216 {r g w : Nat} {i : Int32} (hn : 337 ≤ n) (hG : GaR P F L D C R n r g) (hN : mN P ≤ 10) (hw : w < 2) (hi : i = -1 ∨ 0 ≤ i) :
    Ev (d + 1) 216 [.ref g, .int (nI w), .int i] (mk L D C M R n s) (Rt (fun v m' => v = some (.int (lsW P r w i)) ∧ ∃ Y, m' = mk L (fu D n (102, 1024)) (fu C n Y) M (fu R n fun _ => none) (n + 1) (s + 1024))) := by
  have hX := iN_lt hN
  have hlt : g < n := hG.2.2.1
  have hG' : ∀ Y, GaR P F L (fu D n (102, 1024)) (fu C n Y) (fu R n fun _ => none) (n + 1) r g := fun Y => by
    obtain ⟨o, q1, q2, q3, q4, q5, q6, c, t, q7, q8, q9, q10, q11, q12, q13, q14, q15, q16, q17⟩ := hG
    exact ⟨o.up (by omega), q1, by omega, q3, by rw [fu_ne (by omega)]; exact q4, by rw [fu_ne (by omega)]; exact q5, by rw [fu_ne (by omega)]; exact q6, c, t, by rw [fu_ne (by omega)]; exact q7, q8.up (by omega), by omega, q10, fun S hS => by rw [fu_ne (by omega)]; exact q11 S hS, by rw [fu_ne (by omega)]; exact q12, q13.up (by omega), q14, by omega, q16, q17⟩
  have hb : Ob L (fu D n (102, 1024)) n 102 1024 := Ob.new hn
  refine ev_in rfl ?_
  refine go_t 0 rfl ?_
  refine go_newA (k := 1024) rfl rfl hn rfl (by decide) ?_
  refine go_t 12 rfl ?_
  generalize hp : dsP (crP P r) (iN P) (nI w) = p
  have hdp : DecidablePred p := by rw [← hp]; exact fun S => inferInstance
  have hml : ∀ k, mlP P r (nI w) k ↔ nsub k (iN P) = 0 ∧ (p k ∧ ∀ q, q < k → nsub q k = 0 → ¬ p q) := fun k => by rw [← hp]
  have t217' : ∀ Y S, S < 1024 → Ev d 217 [.ref g, .int (nI S), .int (nI w)] (mk L (fu D n (102, 1024)) (fu C n Y) M (fu R n fun _ => none) (n + 1) (s + 1024)) (Rt (Is (some (.int (bI (p S)))) (mk L (fu D n (102, 1024)) (fu C n Y) M (fu R n fun _ => none) (n + 1) (s + 1024)))) := fun Y S hS => by
    have := t217 (d := d) (M := M) (s := s + 1024) (hG' Y) hN hS hw
    have e : bI (dsP (crP P r) (iN P) (nI w) S) = bI (p S) := bI_iff (by rw [hp])
    rw [e] at this
    exact this
  refine go_for 1024 (fun k Lc m => ∃ x6 Y, Lc = [some (.ref g), some (.int (nI w)), some (.int i), some (.ref n), some (.int (nI (ctN (mlP P r (nI w)) k))), some (.int (nI k)), x6] ∧ m = mk L (fu D n (102, 1024)) (fu C n Y) M (fu R n fun _ => none) (n + 1) (s + 1024) ∧ (∀ S, S < 1024 → Y S = if S < k ∧ nsub S (iN P) = 0 then bI (bwP p S) else 0) ∧ (i = -1 ∨ ithN (mlP P r (nI w)) i.toNatClampNeg k = none)) ?_ ?_ ?_
  · exact ⟨none, fun _ => 0, rfl, rfl, fun S hS => by rw [if_neg (fun q => by omega)], Or.inr rfl⟩
  · rintro k _ _ hk ⟨x6, Y, rfl, rfl, hY, hth⟩ kk
    have hct := ctN_le (p := mlP P r (nI w)) k
    have eX : fu C n Y g 0 = nI (iN P) := (hG' Y).2.2.2.2.1
    have e29 : nI k &&& (nI (iN P) ^^^ (-1)) = 0 ↔ nsub k (iN P) = 0 := by
      have : nsub k (iN P) ≤ k := nsub_le
      rw [nI_not, nI_zero (by omega)]
    have fin : ∀ x6 Y' v, (∀ S, S < 1024 → Y' S = if S < k + 1 ∧ nsub S (iN P) = 0 then bI (bwP p S) else 0) → v = ctN (mlP P r (nI w)) (k + 1) → (i = -1 ∨ ithN (mlP P r (nI w)) i.toNatClampNeg (k + 1) = none) → Go (d + 1) 216 141 [some (.ref g), some (.int (nI w)), some (.int i), some (.ref n), some (.int (nI v)), some (.int (nI k)), x6] [] (mk L (fu D n (102, 1024)) (fu C n Y') M (fu R n fun _ => none) (n + 1) (s + 1024)) (Rt (fun v m' => v = some (.int (lsW P r w i)) ∧ ∃ Y, m' = mk L (fu D n (102, 1024)) (fu C n Y) M (fu R n fun _ => none) (n + 1) (s + 1024))) := fun x6 Y' v h1 h2 h3 => by
      subst h2
      refine go_t 12 rfl (kk _ _ ⟨x6, Y', ?_, rfl, h1, h3⟩)
      rw [← nI_1]
    refine go_t 0 rfl ?_
    refine go_bf rfl (by exact nI_ge hk (by decide)) ?_
    refine go_t 0 rfl ?_
    refine go_gI rfl (hG' Y).1.k (hG' Y).1.m rfl ?_
    rw [eX]
    refine go_t 0 rfl ?_
    dsimp only
    refine go_br rfl (fun h29 => ?_) (fun h29 => ?_)
    rotate_left
    · refine go_t 141 rfl ?_
      have hno : ¬ nsub k (iN P) = 0 := fun q => h29 (e29.mpr q)
      refine fin _ Y _ (fun S hS => ?_) (by rw [ctN, if_neg (fun q => hno q.1)]) ?_
      · rw [hY S hS]
        by_cases e : S = k
        · subst e; rw [if_neg (fun q => by omega), if_neg (fun q => hno q.2)]
        · by_cases q : S < k ∧ nsub S (iN P) = 0
          · rw [if_pos q, if_pos ⟨by omega, q.2⟩]
          · rw [if_neg q, if_neg (fun z => q ⟨by omega, z.2⟩)]
      · rcases hth with z | z
        · exact Or.inl z
        · exact Or.inr (by rw [ithN, z]; exact if_neg (fun q => hno q.1.1))
    have hsub := e29.mp h29
    refine go_t 38 rfl ?_
    refine go_for 10 (fun j Lc m => ∃ Y, Lc = [some (.ref g), some (.int (nI w)), some (.int i), some (.ref n), some (.int (nI (ctN (mlP P r (nI w)) k))), some (.int (nI k)), some (.int (nI j))] ∧ m = mk L (fu D n (102, 1024)) (fu C n Y) M (fu R n fun _ => none) (n + 1) (s + 1024) ∧ (∀ S, S < 1024 → ¬ S = k → Y S = if S < k ∧ nsub S (iN P) = 0 then bI (bwP p S) else 0) ∧ Y k = bI (bwK p k j)) ?_ ?_ ?_
    · exact ⟨Y, rfl, rfl, fun S hS _ => hY S hS, by rw [hY k hk, if_neg (fun q => by omega), bI_f (fun q => q (fun m hm => by omega))]⟩
    · rintro j _ _ hj ⟨Y, rfl, rfl, hY1, hY2⟩ kj
      have fj : ∀ Y', (∀ S, S < 1024 → ¬ S = k → Y' S = if S < k ∧ nsub S (iN P) = 0 then bI (bwP p S) else 0) → Y' k = bI (bwK p k (j + 1)) → Go (d + 1) 216 103 [some (.ref g), some (.int (nI w)), some (.int i), some (.ref n), some (.int (nI (ctN (mlP P r (nI w)) k))), some (.int (nI k)), some (.int (nI j))] [] (mk L (fu D n (102, 1024)) (fu C n Y') M (fu R n fun _ => none) (n + 1) (s + 1024)) (Rt (fun v m' => v = some (.int (lsW P r w i)) ∧ ∃ Y, m' = mk L (fu D n (102, 1024)) (fu C n Y) M (fu R n fun _ => none) (n + 1) (s + 1024))) := fun Y' h1 h2 => by
        refine go_t 38 rfl (kj _ _ ⟨Y', ?_, rfl, h1, h2⟩)
        rw [← nI_1]
      -- what is stored
      have st : ∀ (c : Prop) [Decidable c], (c ↔ bwK p k (j + 1)) → Go (d + 1) 216 103 [some (.ref g), some (.int (nI w)), some (.int i), some (.ref n), some (.int (nI (ctN (mlP P r (nI w)) k))), some (.int (nI k)), some (.int (nI j))] [] (mk L (fu D n (102, 1024)) (fu C n (fu Y k (bI c))) M (fu R n fun _ => none) (n + 1) (s + 1024)) (Rt (fun v m' => v = some (.int (lsW P r w i)) ∧ ∃ Y, m' = mk L (fu D n (102, 1024)) (fu C n Y) M (fu R n fun _ => none) (n + 1) (s + 1024))) := fun c _ hc => by
        refine fj _ (fun S hS hne => by rw [fu_ne hne]; exact hY1 S hS hne) ?_
        rw [fu_self]
        exact bI_iff hc
      have hlt2 : nsub k (2 ^ j) < 1024 := nsub_lt hk
      refine go_t 0 rfl ?_
      refine go_bf rfl (by exact (nI_ge hj (by decide))) ?_
      refine go_t 0 rfl ?_
      dsimp only
      refine go_br rfl (fun h53 => ?_) (fun h53 => ?_)
      · skip
        refine fj Y hY1 ?_
        rw [hY2]
        exact bI_iff ⟨fun q => bwK_s.mpr (Or.inl q), fun q => (bwK_s.mp q).elim id (fun z => absurd ((bit_n hk (by omega)).mpr z.1) h53)⟩
      · skip
        replace h53 := Decidable.not_not.mp h53
        refine go_t 0 rfl ?_
        refine go_aldC (k := k) rfl hb.k hb.m rfl rfl (by omega) (by decide) ?_
        rw [fu_self, hY2]
        have hbit := (bit_n hk (by omega)).mp h53
        have hpl := nsub_pow_lt hbit
        refine go_br rfl (fun h63 => ?_) (fun h63 => ?_)
        · skip
          refine go_t 0 rfl ?_
          refine go_bastC (k := k) rfl hb.k hb.c rfl rfl rfl (by omega) (by decide) ?_
          rw [wr_fuS]
          exact st True ⟨fun _ => bwK_s.mpr (Or.inl (bI_n0.mp h63)), fun _ => trivial⟩
        · skip
          replace h63 := Decidable.not_not.mp h63
          refine go_t 0 rfl ?_
          dsimp only
          refine go_aldC (k := nsub k (2 ^ j)) rfl hb.k hb.m rfl (nI_less hj) (by omega) (by decide) ?_
          rw [fu_self, hY1 _ hlt2 (by omega), if_pos ⟨hpl, sub_tr nsub_sub hsub⟩]
          refine go_br rfl (fun h77 => ?_) (fun h77 => ?_)
          · skip
            refine go_t 0 rfl ?_
            refine go_bastC (k := k) rfl hb.k hb.c rfl rfl rfl (by omega) (by decide) ?_
            rw [wr_fuS]
            exact st True ⟨fun _ => bwK_s.mpr (Or.inr ⟨hbit, Or.inl (bI_n0.mp h77)⟩), fun _ => trivial⟩
          · skip
            replace h77 := Decidable.not_not.mp h77
            refine go_t 0 rfl ?_
            dsimp only
            refine go_f (cmd_v2 rfl rfl (hG' Y).1.k rfl) rfl ((by rw [nI_less hj]; exact t217' _ _ hlt2)) ?_
            refine go_br rfl (fun h94 => ?_) (fun h94 => ?_)
            · skip
              replace h94 := bI_0.mp h94
              refine go_t 0 rfl ?_
              refine go_bastC (k := k) rfl hb.k hb.c rfl rfl rfl (by omega) (by decide) ?_
              rw [wr_fuS]
              exact st False ⟨False.elim, fun q => (bwK_s.mp q).elim (fun z => bI_0.mp h63 z) (fun z => z.2.elim (fun y => bI_0.mp h77 y) h94)⟩
            · skip
              replace h94 := bI_n0.mp h94
              refine go_t 0 rfl ?_
              refine go_bastC (k := k) rfl hb.k hb.c rfl rfl rfl (by omega) (by decide) ?_
              rw [wr_fuS]
              exact st True ⟨fun _ => bwK_s.mpr (Or.inr ⟨hbit, Or.inr h94⟩), fun _ => trivial⟩
    · rintro _ _ ⟨Y, rfl, rfl, hY1, hY2⟩
      have hbw : bwK p k 10 ↔ bwP p k := bw_10 hk
      have hY3 : ∀ S, S < 1024 → Y S = if S < k + 1 ∧ nsub S (iN P) = 0 then bI (bwP p S) else 0 := fun S hS => by
        by_cases e : S = k
        · subst e
          rw [if_pos ⟨by omega, hsub⟩, hY2]
          exact bI_iff hbw
        · rw [hY1 S hS e]
          by_cases q : S < k ∧ nsub S (iN P) = 0
          · rw [if_pos q, if_pos ⟨by omega, q.2⟩]
          · rw [if_neg q, if_neg (fun z => q ⟨by omega, z.2⟩)]
      have no : ¬ mlP P r (nI w) k → ctN (mlP P r (nI w)) k = ctN (mlP P r (nI w)) (k + 1) ∧ (i = -1 ∨ ithN (mlP P r (nI w)) i.toNatClampNeg (k + 1) = none) := fun z => by
        refine ⟨by rw [ctN, if_neg z], ?_⟩
        rcases hth with y | y
        · exact Or.inl y
        · exact Or.inr (by rw [ithN, y]; exact if_neg (fun q => z q.1))
      refine go_t 0 rfl ?_
      refine go_nx rfl ?_
      refine go_t 0 rfl ?_
      refine go_aldC (k := k) rfl hb.k hb.m rfl rfl (by omega) (by decide) ?_
      rw [fu_self, hY2]
      refine go_br rfl (fun h113 => ?_) (fun h113 => ?_)
      · skip
        exact (fun z => fin _ Y _ hY3 (no z).1 (no z).2) (fun q => (hbw.mp (bI_n0.mp h113)) (((hml k).mp q).2.2))
      · skip
        replace h113 := Decidable.not_not.mp h113
        refine go_t 0 rfl ?_
        refine go_f (cmd_v2 rfl rfl (hG' Y).1.k rfl) rfl (t217' _ _ hk) ?_
        refine go_br rfl (fun h123 => ?_) (fun h123 => ?_)
        · skip
          replace h123 := bI_n0.mp h123
          refine go_t 0 rfl ?_
          refine go_br rfl (fun h132 => ?_) (fun h132 => ?_)
          · skip
            refine go_t 141 rfl ?_
            rw [nI_1]
            have hy : mlP P r (nI w) k := (hml k).mpr ⟨hsub, h123, fun q h1 h2 h3 => bI_0.mp h113 (hbw.mpr (fun hall => hall q h1 h2 h3))⟩
            refine fin _ Y _ hY3 (by rw [ctN, if_pos hy]) ?_
            rcases hi with z | z
            · exact Or.inl z
            · refine Or.inr ?_
              have y := hth.resolve_left (fun q => by rw [q] at z; exact absurd z (by decide))
              rw [ithN, y]
              refine if_neg (fun q => h132 ?_)
              obtain ⟨x, hx, rfl⟩ := nI_of' z
              rw [nI_clamp hx] at q
              rw [q.2]
          · skip
            replace h132 := Decidable.not_not.mp h132
            refine go_t 0 rfl ?_
            refine go_ret rfl ?_
            have hy : mlP P r (nI w) k := (hml k).mpr ⟨hsub, h123, fun q h1 h2 h3 => bI_0.mp h113 (hbw.mpr (fun hall => hall q h1 h2 h3))⟩
            have hi0 : 0 ≤ i := by rw [← h132]; exact nI_pos' (by omega)
            have hi1 : ¬ i = -1 := fun q => by rw [q] at hi0; exact absurd hi0 (by decide)
            have y := hth.resolve_left hi1
            refine ⟨?_, Y, rfl⟩
            rw [lsW, if_neg hi1, if_pos hi0, ith_some hy (by rw [← h132, nI_clamp (by omega)]) y hk]
            rfl
        · skip
          replace h123 := bI_0.mp (Decidable.not_not.mp h123)
          refine go_t 141 rfl ?_
          exact (fun z => fin _ Y _ hY3 (no z).1 (no z).2) (fun q => h123 ((hml k).mp q).2.1)
  · rintro _ _ ⟨x6, Y, rfl, rfl, hY, hth⟩
    have hct := ctN_le (p := mlP P r (nI w)) 1024
    refine go_t 0 rfl ?_
    refine go_nx rfl ?_
    refine go_t 0 rfl ?_
    refine go_br rfl (fun h149 => ?_) (fun h149 => ?_)
    · skip
      refine go_t 0 rfl ?_
      refine go_ret rfl ?_
      refine ⟨?_, Y, rfl⟩
      have hi0 := hi.resolve_left h149
      rw [lsW, if_neg h149, if_pos hi0, hth.resolve_left h149]
      rfl
    · skip
      replace h149 := Decidable.not_not.mp h149
      refine go_t 0 rfl ?_
      refine go_ret rfl ?_
      exact ⟨by rw [lsW, if_pos h149], Y, rfl⟩
end O1
