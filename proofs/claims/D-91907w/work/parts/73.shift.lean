/-! OPERATION: shift -/
set_option maxRecDepth 100000
section O1s
variable {d L n s : Nat} {D : Nat → Nat × Nat} {C M P : Nat → Nat → Int32} {R : Nat → Nat → Option Nat} {m : Mem} {xs : Nat → Int32} {F : Nat → Prop} {f : Nat → Nat}
abbrev okSh (P : Nat → Nat → Int32) (a b c e t : Int32) : Prop := (0 ≤ a ∧ a < P 305 1) ∧ (0 ≤ b ∧ b ≤ 999) ∧ (0 ≤ c ∧ c ≤ 99) ∧ (-1 ≤ e ∧ e ≤ 5) ∧ (ltS P ≤ t ∧ t ≤ 999) ∧ ¬ P 305 2 = 200
def uS (P : Nat → Nat → Int32) (a b c e t : Int32) : Nat → Nat → Int32 := wr (wr (wr (wr (wr (wr P 306 (sN P) a) 307 (sN P) b) 308 (sN P) c) 309 (sN P) e) 310 (sN P) t) 305 2 (nI (sN P + 1))
def uSh (P : Nat → Nat → Int32) (a b c e t : Int32) : Nat → Nat → Int32 := if okSh P a b c e t then uS P a b c e t else P
theorem lt_200 (hV : VP P) (h : ¬ P 305 2 = 200) : sN P < 200 := by
  obtain ⟨v1, v2, v3, v4⟩ := hV.1
  refine Decidable.byContradiction fun q => h ?_
  rw [v3, show sN P = 200 by omega]
  rfl
theorem mo1f (hV : VP P) (hP : pr M = P) {a b c e t : Int32} (hok : okSh P a b c e t) : Go 1499 89 87 [some (.ref 305), some (.int a), some (.int b), some (.int c), some (.int e), some (.int t)] [] (mk L D C (wr M 305 0 0) R n s)
    (Rt (fun v m' => v = some (.int (bI (okSh P a b c e t))) ∧ ∃ M', m' = mk L D C M' R n s ∧ pr M' = uSh P a b c e t)) := by
  obtain ⟨v1, v2, v3, v4⟩ := hV.1
  have hlt := lt_200 hV hok.2.2.2.2.2
  have e2 : M 305 2 = nI (sN P) := (pr_rd hP rfl).trans v3
  refine go_t 0 rfl ?_
  refine go_gR rfl rfl rfl rfl ?_
  refine go_t 0 rfl ?_
  refine go_gM rfl rfl rfl rfl ?_
  rw [wrk (by decide), e2]
  refine go_t 0 rfl ?_
  refine go_iastM (k := sN P) rfl rfl rfl rfl (by omega) (by decide) ?_
  refine go_t 0 rfl ?_
  refine go_gR rfl rfl rfl rfl ?_
  refine go_t 0 rfl ?_
  refine go_gM rfl rfl rfl rfl ?_
  rw [wr_ne (by decide), wrk (by decide), e2]
  refine go_t 0 rfl ?_
  refine go_iastM (k := sN P) rfl rfl rfl rfl (by omega) (by decide) ?_
  refine go_t 0 rfl ?_
  refine go_gR rfl rfl rfl rfl ?_
  refine go_t 0 rfl ?_
  refine go_gM rfl rfl rfl rfl ?_
  rw [wr_ne (by decide), wr_ne (by decide), wrk (by decide), e2]
  refine go_t 0 rfl ?_
  refine go_iastM (k := sN P) rfl rfl rfl rfl (by omega) (by decide) ?_
  refine go_t 0 rfl ?_
  refine go_gR rfl rfl rfl rfl ?_
  refine go_t 0 rfl ?_
  refine go_gM rfl rfl rfl rfl ?_
  rw [wr_ne (by decide), wr_ne (by decide), wr_ne (by decide), wrk (by decide), e2]
  refine go_t 0 rfl ?_
  refine go_iastM (k := sN P) rfl rfl rfl rfl (by omega) (by decide) ?_
  refine go_t 0 rfl ?_
  refine go_gR rfl rfl rfl rfl ?_
  refine go_t 0 rfl ?_
  refine go_gM rfl rfl rfl rfl ?_
  rw [wr_ne (by decide), wr_ne (by decide), wr_ne (by decide), wr_ne (by decide), wrk (by decide), e2]
  refine go_t 0 rfl ?_
  refine go_iastM (k := sN P) rfl rfl rfl rfl (by omega) (by decide) ?_
  refine go_t 0 rfl ?_
  refine go_gM rfl rfl rfl rfl ?_
  rw [wr_ne (by decide), wr_ne (by decide), wr_ne (by decide), wr_ne (by decide), wr_ne (by decide), wrk (by decide), e2]
  refine go_t 0 rfl ?_
  dsimp only
  refine go_pM rfl rfl rfl rfl ?_
  refine go_t 0 rfl ?_
  refine go_ret rfl ?_
  refine ⟨by rw [bI_t hok], _, rfl, ?_⟩
  rw [nI_1, pr_wrp rfl, pr_wrp rfl, pr_wrp rfl, pr_wrp rfl, pr_wrp rfl, pr_wrp rfl, pr_wr rfl, hP, uSh, if_pos hok]
  rfl
theorem ltS_0 (hV : VP P) : 0 ≤ ltS P := by
  unfold ltS
  split
  · exact Int32.le_refl _
  · rename_i h
    obtain ⟨w, hw, e⟩ := hV.2.2.1.2.2.1 (sN P - 1) (by omega)
    rw [e]
    exact nI_pos' (by omega)
theorem mo1 (hV : VP P) (a b c e t : Int32) : MoOK P (uSh P a b c e t) 89 [.int a, .int b, .int c, .int e, .int t] (.int (bI (okSh P a b c e t))) := by
  intro L D C M R n s hP
  obtain ⟨v1, v2, v3, v4⟩ := hV.1
  have e2 : M 305 2 = P 305 2 := pr_rd hP rfl
  have e2n : M 305 2 = nI (sN P) := e2.trans v3
  have hm : (0 ≤ a ∧ a < wr M 305 0 0 305 1) ↔ (0 ≤ a ∧ a < P 305 1) := by rw [wrk (by decide), show M 305 1 = P 305 1 from pr_rd hP rfl]
  have ht0 : ltS P ≤ t → 0 ≤ t := fun q => Int32.le_trans (ltS_0 hV) q
  have nok : ¬ okSh P a b c e t → (some (Value.int 0) = some (Value.int (bI (okSh P a b c e t))) ∧ ∃ M', mk L D C (wr M 305 0 0) R n s = mk L D C M' R n s ∧ pr M' = uSh P a b c e t) := fun q => ⟨by rw [bI_f q], _, rfl, by rw [pr_wr rfl, hP, uSh, if_neg q]⟩
  refine ev_in rfl ?_
  by_cases hs : sN P = 0
  · have el : ltS P = 0 := if_pos hs
    refine go_t 0 rfl ?_
    refine go_pM rfl rfl rfl rfl ?_
    refine go_t 0 rfl ?_
    refine go_f rfl rfl (t90' _) ?_
    refine go_br rfl (fun h10 => ?_) (fun h10 => ?_)
    · skip
      replace h10 := bI_0.mp h10
      refine go_t 0 rfl ?_
      refine go_ret rfl ?_
      exact nok (fun q => h10 (hm.mpr q.1))
    · skip
      replace h10 := bI_n0.mp h10
      refine go_t 0 rfl ?_
      refine go_f rfl rfl (t91 _) ?_
      refine go_br rfl (fun h18 => ?_) (fun h18 => ?_)
      · skip
        replace h18 := bI_0.mp h18
        refine go_t 0 rfl ?_
        refine go_ret rfl ?_
        exact nok (fun q => h18 q.2.1)
      · skip
        replace h18 := bI_n0.mp h18
        refine go_t 0 rfl ?_
        refine go_f rfl rfl (t92 _ _ _ _) ?_
        refine go_br rfl (fun h29 => ?_) (fun h29 => ?_)
        · skip
          replace h29 := bI_0.mp h29
          refine go_t 0 rfl ?_
          refine go_ret rfl ?_
          exact nok (fun q => h29 q.2.2.1)
        · skip
          replace h29 := bI_n0.mp h29
          refine go_t 0 rfl ?_
          refine go_f rfl rfl (t92 _ _ _ _) ?_
          refine go_br rfl (fun h40 => ?_) (fun h40 => ?_)
          · skip
            replace h40 := bI_0.mp h40
            refine go_t 0 rfl ?_
            refine go_ret rfl ?_
            exact nok (fun q => h40 q.2.2.2.1)
          · skip
            replace h40 := bI_n0.mp h40
            refine go_t 0 rfl ?_
            refine go_f rfl rfl (t91 _) ?_
            refine go_br rfl (fun h49 => ?_) (fun h49 => ?_)
            · skip
              replace h49 := bI_0.mp h49
              refine go_t 0 rfl ?_
              refine go_ret rfl ?_
              exact nok (fun q => h49 ⟨ht0 q.2.2.2.2.1.1, q.2.2.2.2.1.2⟩)
            · skip
              replace h49 := bI_n0.mp h49
              refine go_t 0 rfl ?_
              refine go_gM rfl rfl rfl rfl ?_
              rw [wrk (by decide), e2]
              refine go_t 0 rfl ?_
              refine go_br rfl (fun h59 => ?_) (fun h59 => ?_)
              · skip
                refine go_t 0 rfl ?_
                refine go_ret rfl ?_
                exact nok (fun q => q.2.2.2.2.2 h59)
              · skip
                refine go_t 0 rfl ?_
                refine go_gM rfl rfl rfl rfl ?_
                rw [wrk (by decide), e2n, hs]
                refine go_nx rfl ?_
                exact mo1f hV hP ⟨hm.mp h10, h18, h29, h40, ⟨by rw [el]; exact h49.1, h49.2⟩, h59⟩
  · have el : ltS P = P 310 (sN P - 1) := if_neg hs
    have e310 : M 310 (sN P - 1) = P 310 (sN P - 1) := pr_rd hP rfl
    have es : nI (sN P) - 1 = nI (sN P - 1) := pk_sub (a := sN P) (b := 1) (by omega)
    refine go_t 0 rfl ?_
    refine go_pM rfl rfl rfl rfl ?_
    refine go_t 0 rfl ?_
    refine go_f rfl rfl (t90' _) ?_
    refine go_br rfl (fun h10 => ?_) (fun h10 => ?_)
    · skip
      replace h10 := bI_0.mp h10
      refine go_t 0 rfl ?_
      refine go_ret rfl ?_
      exact nok (fun q => h10 (hm.mpr q.1))
    · skip
      replace h10 := bI_n0.mp h10
      refine go_t 0 rfl ?_
      refine go_f rfl rfl (t91 _) ?_
      refine go_br rfl (fun h18 => ?_) (fun h18 => ?_)
      · skip
        replace h18 := bI_0.mp h18
        refine go_t 0 rfl ?_
        refine go_ret rfl ?_
        exact nok (fun q => h18 q.2.1)
      · skip
        replace h18 := bI_n0.mp h18
        refine go_t 0 rfl ?_
        refine go_f rfl rfl (t92 _ _ _ _) ?_
        refine go_br rfl (fun h29 => ?_) (fun h29 => ?_)
        · skip
          replace h29 := bI_0.mp h29
          refine go_t 0 rfl ?_
          refine go_ret rfl ?_
          exact nok (fun q => h29 q.2.2.1)
        · skip
          replace h29 := bI_n0.mp h29
          refine go_t 0 rfl ?_
          refine go_f rfl rfl (t92 _ _ _ _) ?_
          refine go_br rfl (fun h40 => ?_) (fun h40 => ?_)
          · skip
            replace h40 := bI_0.mp h40
            refine go_t 0 rfl ?_
            refine go_ret rfl ?_
            exact nok (fun q => h40 q.2.2.2.1)
          · skip
            replace h40 := bI_n0.mp h40
            refine go_t 0 rfl ?_
            refine go_f rfl rfl (t91 _) ?_
            refine go_br rfl (fun h49 => ?_) (fun h49 => ?_)
            · skip
              replace h49 := bI_0.mp h49
              refine go_t 0 rfl ?_
              refine go_ret rfl ?_
              exact nok (fun q => h49 ⟨ht0 q.2.2.2.2.1.1, q.2.2.2.2.1.2⟩)
            · skip
              replace h49 := bI_n0.mp h49
              refine go_t 0 rfl ?_
              refine go_gM rfl rfl rfl rfl ?_
              rw [wrk (by decide), e2]
              refine go_t 0 rfl ?_
              refine go_br rfl (fun h59 => ?_) (fun h59 => ?_)
              · skip
                refine go_t 0 rfl ?_
                refine go_ret rfl ?_
                exact nok (fun q => q.2.2.2.2.2 h59)
              · skip
                refine go_t 0 rfl ?_
                refine go_gM rfl rfl rfl rfl ?_
                rw [wrk (by decide), e2n]
                refine go_bf rfl (by exact (fun q => hs ((nI_leI (a := sN P) (b := 0) (by omega) (by decide)).mp q |> Nat.le_zero.mp))) ?_
                refine go_t 0 rfl ?_
                refine go_gR rfl rfl rfl rfl ?_
                refine go_t 0 rfl ?_
                refine go_gM rfl rfl rfl rfl ?_
                rw [wrk (by decide), e2n]
                refine go_t 0 rfl ?_
                dsimp only
                refine go_aldM (k := sN P - 1) rfl rfl rfl rfl es (show sN P - 1 < 200 by omega) (by decide) ?_
                rw [wr_ne (by decide), e310]
                refine go_br rfl (fun h82 => ?_) (fun h82 => ?_)
                · skip
                  exact mo1f hV hP ⟨hm.mp h10, h18, h29, h40, ⟨by rw [el]; exact h82, h49.2⟩, h59⟩
                · skip
                  refine go_t 0 rfl ?_
                  refine go_ret rfl ?_
                  exact nok (fun q => h82 (by have := q.2.2.2.2.1.1; rw [el] at this; exact this))
/-! the component -/
theorem i2b_id {x : Int32} (h1 : -128 ≤ x.toInt) (h2 : x.toInt < 128) : x.toInt8.toInt32 = x := by
  apply Int32.toInt_inj.mp
  rw [Int8.toInt_toInt32, Int32.toInt_toInt8]
  exact Int.bmod_eq_of_le (by omega) (by omega)
theorem i2s_id {x : Int32} (h1 : -32768 ≤ x.toInt) (h2 : x.toInt < 32768) : x.toInt16.toInt32 = x := by
  apply Int32.toInt_inj.mp
  rw [Int16.toInt_toInt32, Int32.toInt_toInt16]
  exact Int.bmod_eq_of_le (by omega) (by omega)
theorem rng {x lo hi : Int32} {l h : Int} (hl : lo.toInt = l) (hh : hi.toInt = h) (q : lo ≤ x ∧ x ≤ hi) : l ≤ x.toInt ∧ x.toInt ≤ h := by
  have h1 := Int32.le_iff_toInt_le.mp q.1
  have h2 := Int32.le_iff_toInt_le.mp q.2
  omega
theorem t172 {x : Nat} {a b c e t : Int32} (h : Ob L D x 4 0) : Ev d 172 [.ref x, .int a, .int b, .int c, .int e, .int t] (mk L D C M R n s) (Rt (Is none (mk L D (wr (wr (wr (wr (wr C x 0 a.toInt8.toInt32) x 3 b.toInt16.toInt32) x 1 c.toInt8.toInt32) x 2 e.toInt8.toInt32) x 4 t.toInt16.toInt32) M R n s))) := by
  have f8 : ∀ (j : Nat) (y : Int32), Nat.ble 3 j = false → fitF 4 j y.toInt8.toInt32 = true := fun j y hj => by
    unfold fitF
    rw [hj]
    show decide (y.toInt8.toInt32.toInt8.toInt32 = y.toInt8.toInt32) = true
    rw [Int8.toInt8_toInt32]
    exact decide_eq_true rfl
  have f16 : ∀ (j : Nat) (y : Int32), Nat.ble 3 j = true → fitF 4 j y.toInt16.toInt32 = true := fun j y hj => by
    unfold fitF
    rw [hj]
    show decide (y.toInt16.toInt32.toInt16.toInt32 = y.toInt16.toInt32) = true
    rw [Int16.toInt16_toInt32]
    exact decide_eq_true rfl
  refine ev_in rfl ?_
  refine go_t 0 rfl (go_obj rfl h.c rfl ?_)
  refine go_t 0 rfl ?_
  refine go_pI rfl h.k h.c rfl (f8 0 a rfl) ?_
  refine go_t 0 rfl ?_
  refine go_pI rfl h.k h.c rfl (f16 3 b rfl) ?_
  refine go_t 0 rfl ?_
  refine go_pI rfl h.k h.c rfl (f8 1 c rfl) ?_
  refine go_t 0 rfl ?_
  refine go_pI rfl h.k h.c rfl (f8 2 e rfl) ?_
  refine go_t 0 rfl ?_
  refine go_pI rfl h.k h.c rfl (f16 4 t rfl) ?_
  exact go_ret rfl ⟨rfl, rfl⟩
theorem ShR.lx (h : ShR P L D C R n f) (h2 : sN P ≤ 200) : ∃ cap e, LsX L D C R n 282 (sN P) cap e f ∧ R 282 1 = some e ∧ cap ≤ 500 := by
  obtain ⟨⟨o, c, e, cap, e1, e2, e3, e4⟩, hE⟩ := h
  refine ⟨cap, e, ⟨o, c, e1, e2, e3, fun i hi => ?_, ?_, ?_⟩, e1, by omega⟩
  · obtain ⟨b1, b2, b3⟩ := hE i hi
    exact ⟨b2, by rw [b1.1]; rfl⟩
  · rcases e4 with e4 | ⟨e4, e5, e6, e7⟩
    · exact Or.inl e4
    · exact Or.inr ⟨e4, e5, e6, by omega⟩
  · rcases e4 with e4 | ⟨e4, e5, e6, e7⟩ <;> omega
end O1s
