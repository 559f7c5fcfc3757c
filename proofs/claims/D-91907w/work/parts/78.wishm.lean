/-! OPERATION: wish, the Model -/
set_option maxRecDepth 100000
section WM
variable {d L n s : Nat} {D : Nat → Nat × Nat} {C M P : Nat → Nat → Int32} {R : Nat → Nat → Option Nat} {m : Mem}
theorem mo17 (hV : VP P) (a o : Int32) : MoOK P (uWish P a o) 149 [.int a, .int o] (.int (bI (okWish P a o))) := by
  intro L D C M R n s hP
  have hm : (0 ≤ a ∧ a < wr M 305 0 0 305 1) ↔ (0 ≤ a ∧ a < P 305 1) := by rw [wrk (by decide), show M 305 1 = P 305 1 from pr_rd hP rfl]
  have nok : ¬ okWish P a o → (some (Value.int 0) = some (Value.int (bI (okWish P a o))) ∧ ∃ M', mk L D C (wr M 305 0 0) R n s = mk L D C M' R n s ∧ pr M' = uWish P a o) := fun q => ⟨by rw [bI_f q], _, rfl, by rw [pr_wr rfl, hP, uWish, if_neg q]⟩
  refine ev_in rfl ?_
  refine go_t 0 rfl ?_
  refine go_pM rfl rfl rfl rfl ?_
  refine go_t 0 rfl ?_
  refine go_f rfl rfl (t90' _) ?_
  refine go_br rfl (fun h10 => ?_) (fun h10 => ?_)
  · skip
    replace h10 := bI_0.mp h10
    refine go_t 0 rfl ?_
    refine go_ret rfl ?_
    exact nok (fun q => h10 (hm.mpr q.1))
  replace h10 := bI_n0.mp h10
  refine go_t 0 rfl ?_
  refine go_f rfl rfl (t92 _ _ _ _) ?_
  refine go_br rfl (fun h22 => ?_) (fun h22 => ?_)
  rotate_left
  · skip
    replace h22 := bI_0.mp (Decidable.not_not.mp h22)
    refine go_t 0 rfl ?_
    refine go_ret rfl ?_
    refine nok (fun q => h22 ?_)
    rcases q.2 with e | ⟨e1, e2, e3⟩
    · rw [e]; decide
    · obtain ⟨w, hw, rfl⟩ := nI_of' e1
      rw [nI_clamp hw] at e2 e3
      exact ⟨Int32.le_trans (by decide) e1, nI_le (a := w) (b := 543210) (wishS_le e2 e3) (by decide)⟩
  replace h22 := bI_n0.mp h22
  obtain ⟨k, hk, rfl⟩ := mem_n hV (hm.mp h10)
  have h10' := hV.1.2.1
  have hk2 : k < 2 ^ 31 := by omega
  by_cases ho : o = -1
  · subst ho
    have ok : okWish P (nI k) (-1) := ⟨hm.mp h10, Or.inl rfl⟩
    refine go_t 0 rfl ?_
    refine go_nx rfl ?_
    refine go_t 0 rfl ?_
    refine go_gR rfl rfl rfl rfl ?_
    refine go_t 0 rfl ?_
    refine go_bastM (k := k) rfl rfl rfl rfl rfl rfl (by omega) (by decide) ?_
    refine go_t 0 rfl ?_
    refine go_ret rfl ?_
    refine ⟨by rw [bI_t ok], _, rfl, ?_⟩
    rw [pr_wrp rfl, pr_wr rfl, hP, uWish, if_pos ok, if_pos rfl, nI_clamp hk2]
    rfl
  · have h0 : 0 ≤ o := by
      have h1 := Int32.le_iff_toInt_le.mp h22.1
      have h2 : o.toInt ≠ -1 := fun q => ho (Int32.toInt_inj.mp q)
      have h3 : (-1 : Int32).toInt = -1 := rfl
      exact Int32.le_iff_toInt_le.mpr (show (0 : Int) ≤ o.toInt by omega)
    obtain ⟨w, hw, rfl⟩ := nI_of' h0
    have hw2 : w ≤ 543210 := (nI_leI (a := w) (b := 543210) hw (by decide)).mp h22.2
    have okI : okWish P (nI k) (nI w) ↔ wishS w 6 = 63 := by
      constructor
      · rintro ⟨_, q | ⟨_, q, _⟩⟩
        · exact absurd q ho
        · rw [nI_clamp hw] at q; exact q
      · intro q
        exact ⟨hm.mp h10, Or.inr ⟨h0, by rw [nI_clamp hw]; exact q, by rw [nI_clamp hw]; omega⟩⟩
    refine go_t 0 rfl ?_
    refine go_bt rfl (by exact ho) ?_
    refine go_t 49 rfl ?_
    refine go_for 6 (fun j Lc m => Lc = [some (.ref 305), some (.int (nI k)), some (.int (nI w)), some (.int (nI (wishS w j))), some (.int (nI (w / 10 ^ j))), some (.int (nI j))] ∧ m = mk L D C (wr M 305 0 0) R n s) ⟨by rw [Nat.pow_zero, Nat.div_one]; rfl, rfl⟩ ?_ ?_
    · rintro j _ _ hj ⟨rfl, rfl⟩ kk
      have hx : w / 10 ^ j < 2 ^ 31 := Nat.lt_of_le_of_lt (Nat.div_le_self _ _) hw
      have hd10 : dg w j < 10 := Nat.mod_lt _ (by decide)
      have hdg : w / 10 ^ j % 10 = dg w j := rfl
      refine go_t 0 rfl ?_
      refine go_bf rfl (by exact nI_ge hj (by decide)) ?_
      refine go_t 0 rfl ?_
      refine go_nx rfl ?_
      rw [nI_rem10 hx, hdg]
      refine go_t 0 rfl ?_
      refine go_br rfl (fun h63 => ?_) (fun h63 => ?_)
      · skip
        refine go_t 0 rfl ?_
        refine go_nx rfl ?_
        refine go_t 49 rfl ?_
        rw [nI_div10 hx, nI_1]
        have hge := (nI_leI (a := 6) (b := dg w j) (by decide) (by omega)).mp h63
        exact kk _ _ ⟨by rw [div_s, wishS, if_neg (by omega)], rfl⟩
      · skip
        refine go_t 0 rfl ?_
        refine go_nx rfl ?_
        rw [nI_rem10 hx, hdg]
        refine go_t 0 rfl ?_
        dsimp only
        refine go_nx rfl ?_
        refine go_t 49 rfl ?_
        rw [nI_with hd10, nI_div10 hx, nI_1]
        have hlt : dg w j < 6 := Decidable.byContradiction fun q => h63 (nI_le (a := 6) (b := dg w j) (by omega) (by omega))
        exact kk _ _ ⟨by rw [div_s, wishS, if_pos hlt], rfl⟩
    · rintro _ _ ⟨rfl, rfl⟩
      have hS := wishS_64 (w := w) 6
      refine go_t 0 rfl ?_
      refine go_nx rfl ?_
      refine go_t 0 rfl ?_
      refine go_br rfl (fun h92 => ?_) (fun h92 => ?_)
      rotate_left
      · skip
        refine go_t 0 rfl ?_
        refine go_ret rfl ?_
        exact nok (fun q => h92 (by rw [okI.mp q]; rfl))
      have h63 : wishS w 6 = 63 := (nI_eq (a := wishS w 6) (b := 63) (by omega) (by decide)).mp h92
      have ok := okI.mpr h63
      refine go_t 103 rfl ?_
      refine go_for 6 (fun j Lc m => ∃ M', Lc = [some (.ref 305), some (.int (nI k)), some (.int (nI w)), some (.int (nI (wishS w 6))), some (.int (nI (w / 10 ^ j))), some (.int (nI (6 - j) - 1))] ∧ m = mk L D C M' R n s ∧ pr M' = putW P k w j) ⟨_, by rw [Nat.pow_zero, Nat.div_one]; rfl, rfl, (pr_wr rfl).trans hP⟩ ?_ ?_
      · rintro j _ _ hj ⟨M2, rfl, rfl, hp⟩ kk
        have hx : w / 10 ^ j < 2 ^ 31 := Nat.lt_of_le_of_lt (Nat.div_le_self _ _) hw
        have hdg : w / 10 ^ j % 10 = dg w j := rfl
        rw [nI_p1 (show 1 ≤ 6 - j by omega)]
        have ei : (6 : Int32) * nI k + nI (6 - j - 1) = nI (6 * k + (5 - j)) := by
          have e1 : (6 : Int32) * nI k = nI (6 * k) := pk_mul 6 k
          rw [e1, show 6 - j - 1 = 5 - j by omega]
          exact nI_add _ _
        refine go_t 0 rfl ?_
        refine go_bf rfl (by exact (nI_pos (by omega))) ?_
        refine go_t 0 rfl ?_
        refine go_gR rfl rfl rfl rfl ?_
        refine go_t 0 rfl ?_
        dsimp only
        refine go_nx rfl ?_
        rw [nI_rem10 hx, hdg]
        refine go_iastM (k := 6 * k + (5 - j)) rfl rfl rfl ei (show 6 * k + (5 - j) < 60 by omega) (by decide) ?_
        refine go_t 0 rfl ?_
        refine go_nx rfl ?_
        refine go_t 103 rfl ?_
        rw [nI_div10 hx, nI_m1s]
        exact kk _ _ ⟨_, by rw [div_s, show 6 - (j + 1) = 6 - j - 1 by omega], rfl, by rw [pr_wrp rfl, hp, putW]⟩
      · rintro _ _ ⟨M2, rfl, rfl, hp⟩
        refine go_t 0 rfl ?_
        refine go_nx rfl ?_
        refine go_t 0 rfl ?_
        refine go_gR rfl rfl rfl rfl ?_
        refine go_t 0 rfl ?_
        refine go_bastM (k := k) rfl rfl rfl rfl rfl rfl (by omega) (by decide) ?_
        refine go_t 0 rfl ?_
        refine go_ret rfl ?_
        refine ⟨by rw [bI_t ok], _, rfl, ?_⟩
        rw [pr_wrp rfl, hp, uWish, if_pos ok, if_neg ho, nI_clamp hk2, nI_clamp hw]
        rfl
end WM
