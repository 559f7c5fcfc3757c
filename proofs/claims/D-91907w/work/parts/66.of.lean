/-! OPERATION: of -/
set_option maxRecDepth 100000
section O6
variable {d L n s : Nat} {D : Nat → Nat × Nat} {C M P : Nat → Nat → Int32} {R : Nat → Nat → Option Nat} {m : Mem} {xs : Nat → Int32} {F : Nat → Prop} {f : Nat → Nat}
abbrev memP (P : Nat → Nat → Int32) (a : Int32) : Prop := 0 ≤ a ∧ a < P 305 1
def wOf (P : Nat → Nat → Int32) (a b : Int32) : Int32 :=
  if memP P a then (if b = 2 then (if P 312 a.toNatClampNeg = 0 then -1 else P 311 (6 * a.toNatClampNeg)) else if hereP P a then (if b = 0 then wtS P (P 305 8) (P 305 9) a.toNatClampNeg else if b = 1 then blS P (P 305 8) (P 305 9) a.toNatClampNeg else -1) else -1) else -1
theorem mem_n (hV : VP P) {a : Int32} (h : memP P a) : ∃ k, k < mN P ∧ a = nI k := by
  have hN := hV.1.2.1
  obtain ⟨j, hj, rfl⟩ := nI_of' h.1
  have := h.2
  rw [hV.1.1, nI_ltI hj (by omega)] at this
  exact ⟨j, this, rfl⟩
theorem here_k {k : Nat} (hk : k < 10) : hereP P (nI k) ↔ (iN P).testBit k = true := by
  unfold hereP
  rw [nI_clamp (by omega)]
  exact ⟨fun q => q.2.2, fun q => ⟨nI_pos' (by omega), nI_le (a := k) (b := 9) (by omega) (by decide), q⟩⟩
theorem mo3 (hV : VP P) (a b : Int32) : MoOK P P 94 [.int a, .int b] (.int (wOf P a b)) := by
  intro L D C M R n s hP
  have hN := hV.1.2.1
  have hX := iN_lt hN
  have hX' : inN P (P 305 8) (P 305 9) (mN P) < 1024 := hX
  have e1 : wr M 305 0 0 305 1 = P 305 1 := pr_rd (a := 305) (k := 1) ((pr_wr rfl).trans hP) rfl
  refine ev_in rfl ?_
  refine go_t 0 rfl ?_
  refine go_pM rfl rfl rfl rfl ?_
  refine go_t 0 rfl ?_
  refine go_f rfl rfl (t90' _) ?_
  refine go_br rfl (fun h10 => ?_) (fun h10 => ?_)
  · skip
    replace h10 := bI_0.mp h10
    refine go_t 0 rfl (go_ret rfl ?_)
    exact ⟨by rw [wOf, if_neg (fun q => h10 (by rw [e1]; exact q))], _, rfl, (pr_wr rfl).trans hP⟩
  replace h10 := bI_n0.mp h10
  refine go_t 0 rfl ?_
  refine go_f rfl rfl (t92 _ _ _ _) ?_
  refine go_br rfl (fun h20 => ?_) (fun h20 => ?_)
  rotate_left
  · skip
    replace h20 := bI_0.mp (Decidable.not_not.mp h20)
    refine go_t 0 rfl (go_ret rfl ?_)
    refine ⟨?_, _, rfl, (pr_wr rfl).trans hP⟩
    unfold wOf
    split
    · rw [if_neg (fun q => h20 (by rw [q]; exact ⟨by decide, by decide⟩))]
      split
      · rw [if_neg (fun q => h20 (by rw [q]; exact ⟨by decide, by decide⟩)), if_neg (fun q => h20 (by rw [q]; exact ⟨by decide, by decide⟩))]
      · rfl
    · rfl
  replace h20 := bI_n0.mp h20
  rw [e1] at h10
  obtain ⟨k, hk, rfl⟩ := mem_n hV h10
  have hk2 : k < 2 ^ 31 := by omega
  have e2 : wr M 305 0 0 312 k = P 312 k := pr_rd (a := 312) (k := k) ((pr_wr rfl).trans hP) rfl
  have e3 : wr M 305 0 0 311 (6 * k) = P 311 (6 * k) := pr_rd (a := 311) (k := 6 * k) ((pr_wr rfl).trans hP) rfl
  have ew : wOf P (nI k) b = if b = 2 then (if P 312 k = 0 then -1 else P 311 (6 * k)) else if hereP P (nI k) then (if b = 0 then wtS P (P 305 8) (P 305 9) k else if b = 1 then blS P (P 305 8) (P 305 9) k else -1) else -1 := by
    rw [wOf, if_pos h10]
    simp only [nI_clamp hk2]
  rw [ew]
  refine go_t 0 rfl ?_
  refine go_br rfl (fun h27 => ?_) (fun h27 => ?_)
  · skip
    refine go_t 0 rfl ?_
    refine go_c rfl rfl (t95 (P := P) ((pr_wr rfl).trans hP) hV.1) (fun v54 m54 hq54 => ?_)
    obtain ⟨rfl, M1, rfl, hF, hH⟩ := hq54
    have hP1 : pr M1 = P := (hF.pr fun _ _ => wF_per).trans ((pr_wr rfl).trans hP)
    obtain ⟨k1, k2, k3, k4⟩ := hH
    obtain ⟨k5, k6⟩ := k4 k hk
    refine go_t 0 rfl ?_
    refine go_gM rfl rfl rfl rfl ?_
    rw [k1]
    refine go_t 0 rfl ?_
    refine go_f rfl rfl (t97 _ _ _) ?_
    refine go_br rfl (fun h66 => ?_) (fun h66 => ?_)
    · skip
      replace h66 := bI_n0.mp h66
      refine go_t 0 rfl ?_
      refine go_br rfl (fun h72 => ?_) (fun h72 => ?_)
      · skip
        refine go_t 0 rfl ?_
        refine go_gR rfl rfl rfl rfl ?_
        refine go_t 0 rfl ?_
        refine go_aldM (k := k) rfl rfl rfl rfl rfl (by omega) (by decide) ?_
        rw [k5]
        refine go_ret rfl ?_
        refine ⟨?_, M1, rfl, hP1⟩
        have hh := (here_k (P := P) (k := k) (by omega)).mpr ((bitI_1 (by omega) (by omega)).mp h66)
        obtain ⟨y, hy, rfl⟩ := in_n 2 (N := 2) rfl h20
        have hy1 : y = 1 := by
          rcases (show y = 0 ∨ y = 1 ∨ y = 2 by omega) with q | q | q
          · subst q; exact absurd rfl h72
          · exact q
          · subst q; exact absurd rfl h27
        subst hy1
        rw [if_neg h27, if_pos hh, if_neg h72, if_pos (show nI 1 = 1 from rfl)]
      · skip
        replace h72 := Decidable.not_not.mp h72
        refine go_t 0 rfl ?_
        refine go_gR rfl rfl rfl rfl ?_
        refine go_t 0 rfl ?_
        refine go_aldM (k := k) rfl rfl rfl rfl rfl (by omega) (by decide) ?_
        rw [k6]
        refine go_t 0 rfl ?_
        refine go_ret rfl ?_
        refine ⟨?_, M1, rfl, hP1⟩
        have hh := (here_k (P := P) (k := k) (by omega)).mpr ((bitI_1 (by omega) (by omega)).mp h66)
        rw [if_neg h27, if_pos hh, if_pos h72]
    · skip
      replace h66 := bI_0.mp (Decidable.not_not.mp h66)
      refine go_t 0 rfl ?_
      refine go_ret rfl ?_
      exact ⟨by rw [if_neg h27, if_neg (fun q => h66 ((bitI_1 (by omega) (by omega)).mpr ((here_k (by omega)).mp q)))], M1, rfl, hP1⟩
  · skip
    replace h27 := Decidable.not_not.mp h27
    refine go_t 0 rfl ?_
    refine go_gR rfl rfl rfl rfl ?_
    refine go_t 0 rfl ?_
    refine go_aldM (k := k) rfl rfl rfl rfl rfl (by omega) (by decide) ?_
    rw [e2]
    refine go_br rfl (fun h36 => ?_) (fun h36 => ?_)
    · skip
      refine go_t 52 rfl ?_
      refine go_t 0 rfl (go_ret rfl ?_)
      exact ⟨by rw [if_pos h27, if_pos h36], _, rfl, (pr_wr rfl).trans hP⟩
    · skip
      refine go_t 0 rfl ?_
      refine go_gR rfl rfl rfl rfl ?_
      refine go_t 0 rfl ?_
      dsimp only
      refine go_aldM (k := 6 * k) rfl rfl rfl rfl (pk_mul 6 k) (by omega) (by decide) ?_
      rw [e3]
      refine go_t 52 rfl ?_
      refine go_ret rfl ?_
      exact ⟨by rw [if_pos h27, if_neg h36], _, rfl, (pr_wr rfl).trans hP⟩
/-- a wish's first motion -/
theorem t224 {w ar k : Nat} (hV : VPw P) (hk : k < 10) (h1 : P 312 k = 1) (w5 : Ob L D w 19 0) (w6 : Ob L D ar 100 6) (w7 : R w 0 = some ar) (w8 : ∀ j x, j < 6 → x < 6 → P 311 (6 * k + j) = nI x → C ar x = nI j) : Ev d 224 [.ref w] (mk L D C M R n s) (Rt (Is (some (.int (P 311 (6 * k)))) (mk L D C M R n s))) := by
  obtain ⟨p, hp1, hp2⟩ := ((hV k hk).resolve_left (fun q => by rw [h1] at q; cases q)).2
  obtain ⟨p0, e0⟩ := hp1 0 (by decide)
  rw [Nat.add_zero] at e0
  have hrw : rf R w 0 = some ar := by rw [w5.R]; exact w7
  have c0 : C ar (p 0) = nI 0 := w8 0 (p 0) (by decide) p0 (by rw [Nat.add_zero]; exact e0)
  rw [e0]
  refine ev_in rfl ?_
  refine go_t 2 rfl ?_
  refine go_for (p 0) (fun j Lc m => Lc = [some (.ref w), some (.int (nI j))] ∧ m = mk L D C M R n s) ⟨rfl, rfl⟩ ?_ ?_
  · rintro j _ _ hj ⟨rfl, rfl⟩ kk
    obtain ⟨q, hq, eq⟩ := hp2 j (by omega)
    have cj : C ar j = nI q := w8 q j hq (by omega) (by rw [← eq]; exact (hp1 q hq).2)
    have hq0 : ¬ q = 0 := fun z => by subst z; omega
    refine go_t 0 rfl ?_
    refine go_gR rfl w5.k rfl hrw ?_
    refine go_t 0 rfl ?_
    refine go_aldC (k := j) rfl w6.k w6.m rfl rfl (by omega) (by decide) ?_
    rw [cj]
    refine go_bf rfl (by exact (fun z => hq0 ((nI_zero (by omega)).mp z))) ?_
    refine go_t 2 rfl ?_
    rw [nI_1]
    exact kk _ _ ⟨rfl, rfl⟩
  · rintro _ _ ⟨rfl, rfl⟩
    refine go_t 0 rfl ?_
    refine go_gR rfl w5.k rfl hrw ?_
    refine go_t 0 rfl ?_
    refine go_aldC (k := p 0) rfl w6.k w6.m rfl rfl (by omega) (by decide) ?_
    rw [c0]
    refine go_nx rfl ?_
    refine go_t 0 rfl ?_
    refine go_ret rfl ?_
    exact ⟨rfl, rfl⟩
theorem co3 (a b : Int32) : CoOK P P 40 [.int a, .int b] (.int (wOf P a b)) := by
  intro xs F f L D C M R n s h
  have hV := h.1
  have hN := hV.1.2.1
  have e1 : C 281 3 = nI (mN P) := h.2.1.2.1.1.trans hV.1.1
  refine ev_in rfl ?_
  refine go_t 0 rfl ?_
  refine go_f rfl rfl (t36 e1 hN a) ?_
  refine go_br rfl (fun h5 => ?_) (fun h5 => ?_)
  rotate_left
  · skip
    replace h5 := bI_0.mp (Decidable.not_not.mp h5)
    refine go_t 0 rfl ?_
    refine go_ret rfl ?_
    exact ⟨by rw [wOf, if_neg (fun q => h5 (by rw [← hV.1.1]; exact q))], F, f, D, C, R, n, s, rfl, h, by omega, by omega⟩
  replace h5 := bI_n0.mp h5
  rw [← hV.1.1] at h5
  obtain ⟨k, hk, rfl⟩ := mem_n hV h5
  have hk2 : k < 2 ^ 31 := by omega
  have ew : wOf P (nI k) b = if b = 2 then (if P 312 k = 0 then -1 else P 311 (6 * k)) else if hereP P (nI k) then (if b = 0 then wtS P (P 305 8) (P 305 9) k else if b = 1 then blS P (P 305 8) (P 305 9) k else -1) else -1 := by
    rw [wOf, if_pos h5]
    simp only [nI_clamp hk2]
  rw [ew]
  have e293 : rf R 293 k = R 293 k := by rw [rf_op rfl]
  by_cases hb2 : b = 2
  · rw [if_pos hb2]
    rcases h.2.2.1.2.2.2.2.2.2.1 k (by omega) with ⟨w1, w2⟩ | ⟨w, ar, w1, w2, w3, w4, w5, w6, w7, w8⟩
    · rw [w1] at e293
      refine go_t 0 rfl ?_
      refine go_bf rfl (by exact (fun q => q hb2)) ?_
      refine go_t 0 rfl ?_
      refine go_gR rfl rfl rfl rfl ?_
      refine go_t 0 rfl ?_
      refine go_aald (k := k) rfl rfl rfl rfl (by omega) (by decide) e293 ?_
      refine go_nul2 rfl ?_
      refine go_t 0 rfl ?_
      refine go_ret rfl ?_
      exact ⟨by rw [if_pos w2], F, f, D, C, R, n, s, rfl, h, by omega, by omega⟩
    · rw [w1] at e293
      refine go_t 0 rfl ?_
      refine go_bf rfl (by exact (fun q => q hb2)) ?_
      refine go_t 0 rfl ?_
      refine go_gR rfl rfl rfl rfl ?_
      refine go_t 0 rfl ?_
      refine go_aald (k := k) rfl rfl rfl rfl (by omega) (by decide) e293 ?_
      refine go_ifnon rfl w5.k rfl ?_
      refine go_t 0 rfl ?_
      refine go_gR rfl rfl rfl rfl ?_
      refine go_t 0 rfl ?_
      refine go_aald (k := k) rfl rfl rfl rfl (by omega) (by decide) e293 ?_
      refine go_f (cmd_v0 rfl rfl w5.k rfl) rfl (t224 hV.2.2.2.1 (by omega) w2 w5 w6 w7 w8) ?_
      refine go_ret rfl ?_
      exact ⟨by rw [if_neg (fun q => by rw [w2] at q; cases q)], F, f, D, C, R, n, s, rfl, h, by omega, by omega⟩
  · rw [if_neg hb2]
    refine go_t 0 rfl ?_
    refine go_bt rfl (by exact hb2) ?_
    refine go_t 0 rfl ?_
    refine go_c rfl rfl (t41d (d := 1493) h (nI k) (nI_pos' hk2) (nI_le (a := k) (b := 9) (by omega) (by decide))) (fun v40 m40 hq40 => ?_)
    obtain ⟨rfl, C1, rfl, h1, hL⟩ := hq40
    refine go_br rfl (fun h43 => ?_) (fun h43 => ?_)
    · skip
      replace h43 := bI_n0.mp h43
      refine go_t 0 rfl ?_
      refine go_br rfl (fun h51 => ?_) (fun h51 => ?_)
      · skip
        refine go_t 0 rfl ?_
        refine go_br rfl (fun h68 => ?_) (fun h68 => ?_)
        · skip
          refine go_t 0 rfl ?_
          refine go_ret rfl ?_
          exact ⟨by rw [if_pos h43, if_neg h51, if_neg h68], F, f, D, C1, R, n, s, rfl, h1, by omega, by omega⟩
        · skip
          replace h68 := Decidable.not_not.mp h68
          refine go_t 0 rfl ?_
          refine go_f rfl rfl (t42' hL) ?_
          refine go_gR rfl rfl rfl rfl ?_
          refine go_t 0 rfl ?_
          refine go_aldC (k := k) rfl rfl rfl rfl rfl (by omega) (by decide) ?_
          rw [(hL.2.2.2 k hk).1]
          refine go_t 0 rfl ?_
          refine go_ret rfl ?_
          exact ⟨by rw [if_pos h43, if_neg h51, if_pos h68], F, f, D, C1, R, n, s, rfl, h1, by omega, by omega⟩
      · skip
        replace h51 := Decidable.not_not.mp h51
        refine go_t 0 rfl ?_
        refine go_f rfl rfl (t42' hL) ?_
        refine go_gR rfl rfl rfl rfl ?_
        refine go_t 0 rfl ?_
        refine go_aldC (k := k) rfl rfl rfl rfl rfl (by omega) (by decide) ?_
        have hb := inN_tb.mp ((here_k (P := P) (k := k) (by omega)).mp h43)
        rw [(hL.2.2.2 k hk).2 hb.2]
        refine go_t 0 rfl ?_
        refine go_ret rfl ?_
        exact ⟨by rw [if_pos h43, if_pos h51], F, f, D, C1, R, n, s, rfl, h1, by omega, by omega⟩
    · skip
      replace h43 := bI_0.mp (Decidable.not_not.mp h43)
      refine go_t 0 rfl (go_ret rfl ?_)
      exact ⟨by rw [if_neg h43], F, f, D, C1, R, n, s, rfl, h1, by omega, by omega⟩
end O6
