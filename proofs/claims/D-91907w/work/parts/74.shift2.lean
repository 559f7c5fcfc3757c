/-! OPERATION: shift, the component -/
set_option maxRecDepth 100000
section O1t
variable {d L n s : Nat} {D : Nat → Nat × Nat} {C M P : Nat → Nat → Int32} {R : Nat → Nat → Option Nat} {m : Mem} {xs : Nat → Int32} {F : Nat → Prop} {f : Nat → Nat} {a b c e t : Int32} {i : Nat}
theorem wr_at {G : Nat → Nat → Int32} {x k j : Nat} {v : Int32} : wr G x k v x j = if j = k then v else G x j := by
  by_cases h : j = k
  · subst h; rw [wrs, if_pos rfl]
  · rw [wrk h, if_neg h]
theorem uS_6 : uS P a b c e t 306 i = if i = sN P then a else P 306 i := by
  unfold uS
  rw [wr_ne (by decide), wr_ne (by decide), wr_ne (by decide), wr_ne (by decide), wr_ne (by decide), wr_at]
theorem uS_7 : uS P a b c e t 307 i = if i = sN P then b else P 307 i := by
  unfold uS
  rw [wr_ne (by decide), wr_ne (by decide), wr_ne (by decide), wr_ne (by decide), wr_at, wr_ne (by decide)]
theorem uS_8 : uS P a b c e t 308 i = if i = sN P then c else P 308 i := by
  unfold uS
  rw [wr_ne (by decide), wr_ne (by decide), wr_ne (by decide), wr_at, wr_ne (by decide), wr_ne (by decide)]
theorem uS_9 : uS P a b c e t 309 i = if i = sN P then e else P 309 i := by
  unfold uS
  rw [wr_ne (by decide), wr_ne (by decide), wr_at, wr_ne (by decide), wr_ne (by decide), wr_ne (by decide)]
theorem uS_10 : uS P a b c e t 310 i = if i = sN P then t else P 310 i := by
  unfold uS
  rw [wr_ne (by decide), wr_at, wr_ne (by decide), wr_ne (by decide), wr_ne (by decide), wr_ne (by decide)]
theorem sN_uS (hV : VP P) : sN (uS P a b c e t) = sN P + 1 := by
  have := hV.1.2.2.2
  show (uS P a b c e t 305 2).toNatClampNeg = _
  unfold uS
  rw [wrs]
  exact nI_clamp (by omega)
theorem ltS_uS (hV : VP P) : ltS (uS P a b c e t) = t := by
  unfold ltS
  rw [sN_uS hV, if_neg (by omega), uS_10, if_pos (by omega)]
theorem VP_uS (hV : VP P) (hok : okSh P a b c e t) : VP (uS P a b c e t) := by
  have hlt := lt_200 hV hok.2.2.2.2.2
  have h0 := ltS_0 hV
  have hs := sN_uS (a := a) (b := b) (c := c) (e := e) (t := t) hV
  obtain ⟨⟨v1, v2, v3, v4⟩, w2, ⟨q1, q2, q3, q4⟩, w4, w5, w6, w7, w8⟩ := hV
  obtain ⟨k1, k2, k3, k4, k5, k6⟩ := hok
  refine ⟨⟨v1, v2, ?_, by rw [hs]; omega⟩, w2, ⟨fun i hi => ?_, fun i hi => ?_, fun i hi => ?_, fun i hi => ?_⟩, w4, w5, w6, w7, w8⟩
  · rw [hs]
    unfold uS
    rw [wrs]
  · rw [hs] at hi
    rw [uS_9]
    by_cases z : i = sN P
    · rw [if_pos z]
      by_cases z2 : e = -1
      · exact Or.inl z2
      · refine Or.inr ?_
        obtain ⟨r1, r2⟩ := rng (l := -1) (h := 5) rfl rfl k4
        have r3 : e.toInt ≠ -1 := fun q => z2 (Int32.toInt_inj.mp q)
        obtain ⟨x, hx, ex⟩ := in_n 5 (N := 5) rfl ⟨Int32.le_iff_toInt_le.mpr (show (0 : Int) ≤ e.toInt by omega), k4.2⟩
        exact ⟨x, by omega, ex⟩
    · rw [if_neg z]
      exact q1 i (by omega)
  · rw [hs] at hi
    rw [uS_8]
    by_cases z : i = sN P
    · rw [if_pos z]
      obtain ⟨x, hx, ex⟩ := in_n 99 (N := 99) rfl k3
      exact ⟨x, by omega, ex⟩
    · rw [if_neg z]
      exact q2 i (by omega)
  · rw [hs] at hi
    rw [uS_10]
    by_cases z : i = sN P
    · rw [if_pos z]
      obtain ⟨x, hx, ex⟩ := in_n 999 (N := 999) rfl ⟨Int32.le_trans h0 k5.1, k5.2⟩
      exact ⟨x, by omega, ex⟩
    · rw [if_neg z]
      exact q3 i (by omega)
  · rw [hs] at hi
    rw [uS_10, uS_10, if_neg (by omega)]
    by_cases z : i + 1 = sN P
    · rw [if_pos z]
      have el : ltS P = P 310 (sN P - 1) := if_neg (by omega)
      have := k5.1
      rw [el] at this
      rw [show i = sN P - 1 by omega]
      exact this
    · rw [if_neg z]
      exact q4 i (by omega)
theorem CI.add {D' : Nat → Nat × Nat} {C' : Nat → Nat → Int32} {R' : Nat → Nat → Option Nat} {n' cap' e' : Nat} (h : CI trT xs P F f L D C R n) (hok : okSh P a b c e t) (hn' : n + 1 ≤ n') (hx : LsX L D' C' R' n' 282 (sN P + 1) cap' e' (fu f (sN P) n))
    (hk : ∀ x, x < n → kf L D' x = kf L D x) (hC : ∀ x, x < n → x ≠ 282 → C' x = C x) (hR : ∀ x, x < n → x ≠ 282 → R 282 1 ≠ some x → R' x = R x) (he' : R 282 1 = some e' ∨ n < e') (hOb : Ob L D' n 4 0) (c0 : C' n 0 = a) (c1 : C' n 1 = c) (c2 : C' n 2 = e) (c3 : C' n 3 = b) (c4 : C' n 4 = t) :
    CI trT xs (uS P a b c e t) (fun x => F x ∨ x = n) (fu f (sN P) n) L D' (wr (wr C' 281 4 t) 281 7 0) (R4 R') n' := by
  have hVu := VP_uS h.1 hok
  have hs := sN_uS (a := a) (b := b) (c := c) (e := e) (t := t) h.1
  have hl := ltS_uS (a := a) (b := b) (c := c) (e := e) (t := t) h.1
  obtain ⟨a1, ⟨b1, b2, b3, b4, b5, b6, b7, b8, b9⟩, a3, a4, a5, a6⟩ := h
  have eC' : ∀ x, x ≠ 281 → wr (wr C' 281 4 t) 281 7 0 x = C' x := fun x h1 => by rw [wr_ne h1, wr_ne h1]
  have eC : ∀ x, x < n → x ≠ 281 → x ≠ 282 → wr (wr C' 281 4 t) 281 7 0 x = C x := fun x h1 h2 h3 => by rw [eC' x h2, hC x h1 h3]
  have e1C : ∀ k, k ≠ 4 → k ≠ 7 → wr (wr C' 281 4 t) 281 7 0 281 k = C 281 k := fun k h1 h2 => by rw [wrk h2, wrk h1, hC 281 (by omega) (by decide)]
  have hfx : ∀ x, 281 ≤ x → x < 337 → R 282 1 ≠ some x := fun x h1 h2 q => by
    obtain ⟨⟨o, c, e', cap, e1, e2, e3, e4⟩, _⟩ := b4
    rw [e1] at q
    cases q
    rcases e4 with ⟨e4, _⟩ | ⟨e4, e5, e6, e7⟩ <;> omega
  have eR : ∀ x, x < n → x ≠ 282 → x ≠ 292 → R 282 1 ≠ some x → R4 R' x = R x := fun x h1 h2 h3 h4 => by rw [R4_ne h3, hR x h1 h2 h4]
  have hkp : Kp F L D C R D' (wr (wr C' 281 4 t) 281 7 0) (R4 R') := fun x hF => by
    have hr := b7 x hF
    have e := eR x hr.2 (by omega) (by omega) (fun q => (a6 x q).1 hF)
    exact ⟨hk x hr.2, eC x hr.2 (by omega) (by omega), by rw [rf_hi hr.1, rf_hi hr.1, e], e⟩
  obtain ⟨x1, x2, x3, x4, x5, x6, x7, x8⟩ := hx
  obtain ⟨o1, o2, o3, o4, o5, o6, o7, o8, o9⟩ := a3
  have hC1 : ∀ x, x < 281 → wr (wr C' 281 4 t) 281 7 0 x = C x := fun x hx => eC x (by omega) (by omega) (by omega)
  refine ⟨hVu, ⟨hVu.1, ⟨(e1C 3 (by decide) (by decide)).trans b2.1, (e1C 5 (by decide) (by decide)).trans b2.2.1, (e1C 6 (by decide) (by decide)).trans b2.2.2⟩, Or.inl (wrs ..), ⟨⟨x1, ?_, e', cap', ?_, ?_, fun i hi => ?_, ?_⟩, fun i hi => ?_⟩, fun i hi => ?_, fun v hv => ?_, fun x hx => ?_, by omega, fun r hr => ?_⟩,
    ⟨fun x hx => (hC1 x hx).trans (o1 x hx), ?_, (e1C 10 (by decide) (by decide)).trans o3, (e1C 11 (by decide) (by decide)).trans o4, (e1C 12 (by decide) (by decide)).trans o5, fun k hk => ?_, fun m hm => ?_, fun b hb => ?_, fun p b hp hb => ?_⟩, ⟨fun r hr => Or.inl (R4_r hr), fun r q g x hr _ _ e => by rw [R4_r hr] at e; cases e⟩, fun i hi => ?_, fun e he => ?_⟩
  · rw [eC' _ (by decide), hs]; exact x2
  · rw [R4_ne (by decide)]; exact x3
  · rw [hs]; exact x4
  · rw [hs] at hi
    have := x5 i hi
    unfold rf at this ⊢
    rw [R4_ne (by rcases x7 with q | q <;> omega)]
    exact this
  · rw [hs]
    rcases x7 with q | ⟨q1, q2, q3, q4, q5⟩
    · exact Or.inl q
    · exact Or.inr ⟨q1, q2, q3, q4, by omega, by omega⟩
  · rw [hs] at hi
    unfold ShE
    rw [uS_6, uS_7, uS_8, uS_9, uS_10]
    by_cases z : i = sN P
    · rw [if_pos z, if_pos z, if_pos z, if_pos z, if_pos z, z, fu_self, eC' n (by omega)]
      exact ⟨hOb, by omega, c0, c1, c2, c3, c4⟩
    · rw [if_neg z, if_neg z, if_neg z, if_neg z, if_neg z, fu_ne z]
      obtain ⟨y1, y2, y3⟩ := b4.2 i (by omega)
      have := b5 i (by omega)
      rw [eC _ y2 (by omega) (by omega)]
      exact ⟨⟨by rw [hk _ y2]; exact y1.1, y1.2⟩, by omega, y3⟩
  · rw [hs] at hi
    by_cases z : i = sN P
    · rw [z, fu_self]; exact b8
    · rw [fu_ne z]; exact b5 i (by omega)
  · rw [hC1 _ (by omega)]; exact b6 v hv
  · rcases hx with q | q
    · have := b7 x q; omega
    · omega
  · show RuR P _ L D' _ (R4 R') n' r
    exact (b9 r hr).kp hkp (by omega) (fun _ h => Or.inl h) (by rw [eR 289 (by omega) (by decide) (by decide) (hfx 289 (by decide) (by decide))])
  · rw [hl, wrk (by decide), wrs]
  · rw [eC 290 (by omega) (by decide) (by decide)]; exact o6 k hk
  · exact (o7 m hm).kp hkp (fun _ h => Or.inl h) (by rw [eR 293 (by omega) (by decide) (by decide) (hfx 293 (by decide) (by decide))])
  · rw [eC 295 (by omega) (by decide) (by decide)]; exact o8 b hb
  · rw [eC (297 + p) (by omega) (by omega) (by omega)]; exact o9 p b hp hb
  · rw [hs] at hi
    by_cases z : i = sN P
    · rw [z, fu_self]; exact Or.inr rfl
    · rw [fu_ne z]; exact Or.inl (a5 i (by omega))
  · rw [R4_ne (by decide), x3] at he
    cases he
    refine ⟨fun q => ?_, fun r g hr e => by rw [R4_r hr] at e; cases e⟩
    rcases he' with z | z
    · rcases q with q | q
      · exact (a6 _ z).1 q
      · obtain ⟨⟨o, c, e2, cap, e1, e3, e5, e4⟩, _⟩ := b4
        rw [e1] at z
        cases z
        rcases e4 with ⟨e4, _⟩ | ⟨e4, e6, e7, e8⟩ <;> omega
    · rcases q with q | q
      · have := b7 _ q; omega
      · omega
theorem co1 (a b c e t : Int32) : CoOK P (uSh P a b c e t) 35 [.int a, .int b, .int c, .int e, .int t] (.int (bI (okSh P a b c e t))) := by
  intro xs F f L D C M R n s h
  have hV := h.1
  obtain ⟨v1, v2, v3, v4⟩ := hV.1
  obtain ⟨b1, b2, b3, b4, b5, b6, b7, b8, b9⟩ := h.2.1
  have e3 : C 281 3 = nI (mN P) := b2.1.trans v1
  have e4 : C 281 4 = ltS P := h.2.2.1.2.1
  have hLs := b4.1
  have nok : ¬ okSh P a b c e t → (some (Value.int 0) = some (Value.int (bI (okSh P a b c e t))) ∧ ∃ F' f' D' C' R' n' s', mk L D C M R n s = mk L D' C' M R' n' s' ∧ CI trT xs (uSh P a b c e t) F' f' L D' C' R' n' ∧ n' ≤ n + 16000 ∧ s' ≤ s + 90000) := fun q => ⟨by rw [bI_f q], F, f, D, C, R, n, s, rfl, by rw [uSh, if_neg q]; exact h, by omega, by omega⟩
  refine ev_in rfl ?_
  refine go_t 0 rfl ?_
  refine go_f rfl rfl (t36 e3 v2 a) ?_
  refine go_br rfl (fun h5 => ?_) (fun h5 => ?_)
  · skip
    replace h5 := bI_0.mp h5
    refine go_t 0 rfl ?_
    refine go_ret rfl ?_
    exact nok (fun q => h5 (by rw [← v1]; exact q.1))
  replace h5 := bI_n0.mp h5
  refine go_t 0 rfl ?_
  refine go_f rfl rfl (t38 _) ?_
  refine go_br rfl (fun h12 => ?_) (fun h12 => ?_)
  · skip
    replace h12 := bI_0.mp h12
    refine go_t 0 rfl ?_
    refine go_ret rfl ?_
    exact nok (fun q => h12 q.2.1)
  replace h12 := bI_n0.mp h12
  refine go_t 0 rfl ?_
  refine go_f rfl rfl (t37 _ _ _) ?_
  refine go_br rfl (fun h22 => ?_) (fun h22 => ?_)
  · skip
    replace h22 := bI_0.mp h22
    refine go_t 0 rfl ?_
    refine go_ret rfl ?_
    exact nok (fun q => h22 q.2.2.1)
  replace h22 := bI_n0.mp h22
  refine go_t 0 rfl ?_
  refine go_f rfl rfl (t37 _ _ _) ?_
  refine go_br rfl (fun h32 => ?_) (fun h32 => ?_)
  · skip
    replace h32 := bI_0.mp h32
    refine go_t 0 rfl ?_
    refine go_ret rfl ?_
    exact nok (fun q => h32 q.2.2.2.1)
  replace h32 := bI_n0.mp h32
  refine go_t 0 rfl ?_
  refine go_gI rfl rfl rfl rfl ?_
  rw [e4]
  refine go_t 0 rfl ?_
  refine go_f rfl rfl (t37 _ _ _) ?_
  refine go_br rfl (fun h47 => ?_) (fun h47 => ?_)
  · skip
    replace h47 := bI_0.mp h47
    refine go_t 0 rfl ?_
    refine go_ret rfl ?_
    exact nok (fun q => h47 q.2.2.2.2.1)
  replace h47 := bI_n0.mp h47
  refine go_t 0 rfl ?_
  refine go_gR rfl rfl rfl rfl ?_
  refine go_f rfl rfl (t3 hLs) ?_
  refine go_t 0 rfl ?_
  refine go_br rfl (fun h60 => ?_) (fun h60 => ?_)
  rotate_left
  · skip
    replace h60 := Decidable.not_not.mp h60
    refine go_t 0 rfl ?_
    refine go_ret rfl ?_
    exact nok (fun q => q.2.2.2.2.2 (v3.trans h60))
  have hok : okSh P a b c e t := ⟨by rw [v1]; exact h5, h12, h22, h32, h47, fun q => h60 (v3.symm.trans q)⟩
  have hlt := lt_200 hV hok.2.2.2.2.2
  have hob : Ob L (fu D n (4, 0)) n 4 0 := Ob.new b8
  refine go_t 0 rfl ?_
  refine go_gR rfl rfl rfl rfl ?_
  refine go_new rfl b8 ?_
  refine go_t 0 rfl ?_
  refine go_f (cmd_i5 rfl rfl rfl (cw_l hob.c)) rfl (t172 hob) ?_
  have ra : a.toInt8.toInt32 = a := by
    obtain ⟨x, hx, ex⟩ := mem_n hV hok.1
    have := nI_toInt (show x < 2 ^ 31 by omega)
    rw [← ex] at this
    exact i2b_id (by omega) (by omega)
  have rb : b.toInt16.toInt32 = b := by
    obtain ⟨r1, r2⟩ := rng (l := 0) (h := 999) rfl rfl hok.2.1
    exact i2s_id (by omega) (by omega)
  have rc : c.toInt8.toInt32 = c := by
    obtain ⟨r1, r2⟩ := rng (l := 0) (h := 99) rfl rfl hok.2.2.1
    exact i2b_id (by omega) (by omega)
  have re : e.toInt8.toInt32 = e := by
    obtain ⟨r1, r2⟩ := rng (l := -1) (h := 5) rfl rfl hok.2.2.2.1
    exact i2b_id (by omega) (by omega)
  have rt : t.toInt16.toInt32 = t := by
    obtain ⟨r1, r2⟩ := rng (l := 0) (h := 999) rfl rfl ⟨Int32.le_trans (ltS_0 hV) hok.2.2.2.2.1.1, hok.2.2.2.2.1.2⟩
    exact i2s_id (by omega) (by omega)
  rw [ra, rb, rc, re, rt]
  have hC1 : ∀ x, x ≠ n → wr (wr (wr (wr (wr (fu C n fun _ => 0) n 0 a) n 3 b) n 1 c) n 2 e) n 4 t x = C x := fun x hx => by rw [wr_ne hx, wr_ne hx, wr_ne hx, wr_ne hx, wr_ne hx, fu_ne hx]
  have hS' : ShR P L (fu D n (4, 0)) (wr (wr (wr (wr (wr (fu C n fun _ => 0) n 0 a) n 3 b) n 1 c) n 2 e) n 4 t) (fu R n fun _ => none) (n + 1) f := b4.fr (by omega) (fun x hx => kf_up (by omega)) b8 (by rw [hC1 282 (by omega)]) (by rw [fu_ne (by omega)]) (fun i hi => hC1 _ (by have := (b4.2 i hi).2.1; omega)) (fun x hx => fu_ne (fun q => by
    obtain ⟨⟨o, c, e2, cap, e1, e3, e5, e4⟩, _⟩ := b4
    rw [e1] at hx
    cases hx
    rcases e4 with ⟨e4, _⟩ | ⟨e4, e6, e7, e8⟩ <;> omega))
  obtain ⟨cap, ae, hX, hae, hcap⟩ := hS'.lx v4
  rw [fu_ne (show 282 ≠ n by omega)] at hae
  refine go_c rfl rfl (t4 (d := 1493) (x := n) hX (by omega) (by omega) (by omega) (by omega) (by rw [hob.k]; rfl)) (fun w m' hq => ?_)
  obtain ⟨rfl, D', C', R', n', s', cap', e', rfl, hx', hcase, k1, k2, k3, k4⟩ := hq
  have hCI : CI trT xs (uS P a b c e t) (fun x => F x ∨ x = n) (fu f (sN P) n) L D' (wr (wr C' 281 4 t) 281 7 0) (R4 R') n' := by
    refine h.add hok (by omega) hx' (fun x hx => by rw [k1 x (by omega), kf_up (by omega)]) (fun x hx h2 => by rw [k2 x (by omega) h2, hC1 x (by omega)]) (fun x hx h2 h3 => by rw [k4 x (by omega) h2 (fun q => h3 (by rw [hae, q])), fu_ne (by omega)]) ?_ ⟨by rw [k1 n (by omega)]; exact hob.1, hob.2⟩ ?_ ?_ ?_ ?_ ?_
    · rcases hcase with ⟨q1, q2, q3, q4, q5⟩ | ⟨q1, q2, q3, q4, q5⟩
      · exact Or.inl (by rw [hae, q4])
      · exact Or.inr (by omega)
    · rw [k2 n (by omega) (by omega), wrk (by decide), wrk (by decide), wrk (by decide), wrk (by decide), wrs]
    · rw [k2 n (by omega) (by omega), wrk (by decide), wrk (by decide), wrs]
    · rw [k2 n (by omega) (by omega), wrk (by decide), wrs]
    · rw [k2 n (by omega) (by omega), wrk (by decide), wrk (by decide), wrk (by decide), wrs]
    · rw [k2 n (by omega) (by omega), wrs]
  have hsz : n' ≤ n + 16000 ∧ s' ≤ s + 90000 := by
    rcases hcase with ⟨q1, q2, q3, q4, q5⟩ | ⟨q1, q2, q3, q4, q5⟩
    · omega
    · have hc2 : cap' ≤ 1000 := by
        rw [q3]
        unfold capN
        split <;> omega
      omega
  refine go_t 0 rfl ?_
  refine go_pI rfl rfl rfl rfl rfl ?_
  refine go_t 0 rfl ?_
  refine go_f rfl rfl t34 ?_
  refine go_t 0 rfl (go_ret rfl ?_)
  exact ⟨by rw [bI_t hok], _, _, D', _, _, n', s', rfl, by rw [uSh, if_pos hok]; exact hCI, hsz.1, hsz.2⟩
end O1t
