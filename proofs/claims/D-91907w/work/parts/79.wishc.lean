/-! OPERATION: wish, the component's Wish -/
set_option maxRecDepth 100000
section WC
variable {d L n s : Nat} {D : Nat → Nat × Nat} {C M P : Nat → Nat → Int32} {R : Nat → Nat → Option Nat} {m : Mem}
theorem t225 {x : Nat} (hn : 337 ≤ n) (hx : Ob L D x 19 0) (hxn : x < n) : Ev d 225 [.ref x] (mk L D C M R n s) (Rt (Is none (mk L (fu D n (100, 6)) (fu C n fun _ => 0) M (wr (fu R n fun _ => none) x 0 (some n)) (n + 1) (s + 6)))) := by
  have hx' : Ob L (fu D n (100, 6)) x 19 0 := hx.up (by omega)
  refine ev_in rfl ?_
  refine go_t 0 rfl (go_obj rfl hx.c rfl ?_)
  refine go_t 0 rfl ?_
  refine go_newA (k := 6) rfl rfl hn rfl (by decide) ?_
  refine go_pR rfl hx'.k hx'.c hx'.o rfl ?_
  exact go_ret rfl ⟨rfl, rfl⟩
theorem t226 {x r w : Nat} (hx : Ob L D x 19 0) (hr : Ob L D r 100 6) (hR : R x 0 = some r) (hw : w < 2 ^ 31) : Ev (d + 3) 226 [.ref x, .int (nI w)] (mk L D C M R n s) (Rt (fun v m' => v = some (.int (bI (okW w))) ∧ ∃ C', m' = mk L D C' M R n s ∧ (∀ b, b ≠ r → C' b = C b) ∧ (okW w → ∀ j, j < 6 → C' r (dg w j) = nI (5 - j)))) := by
  have hv : rf R x 0 = some r := by rw [hx.R]; exact hR
  refine ev_in rfl ?_
  refine go_t 7 rfl ?_
  refine go_for 6 (fun j Lc m => ∃ C' z, Lc = [some (.ref x), some (.int (nI w)), some (.int (nI (wishS w j))), some (.int (nI (w / 10 ^ j))), some (.int (nI (6 - j) - 1)), z] ∧ m = mk L D C' M R n s ∧ (∀ b, b ≠ r → C' b = C b) ∧ (wishS w 6 = 63 → ∀ i, i < j → C' r (dg w i) = nI (5 - i))) ⟨C, none, by rw [Nat.pow_zero, Nat.div_one]; rfl, rfl, fun _ _ => rfl, fun _ i h => absurd h (by omega)⟩ ?_ ?_
  · rintro j _ _ hj ⟨C1, z, rfl, rfl, hC1, hr1⟩ kk
    have hx2 : w / 10 ^ j < 2 ^ 31 := Nat.lt_of_le_of_lt (Nat.div_le_self _ _) hw
    have hd10 : dg w j < 10 := Nat.mod_lt _ (by decide)
    have hdg : w / 10 ^ j % 10 = dg w j := rfl
    rw [nI_p1 (show 1 ≤ 6 - j by omega)]
    refine go_t 0 rfl ?_
    refine go_bf rfl (by exact (nI_pos (by omega))) ?_
    refine go_t 0 rfl ?_
    refine go_nx rfl ?_
    rw [nI_rem10 hx2, hdg]
    refine go_t 0 rfl ?_
    refine go_nx rfl ?_
    refine go_t 0 rfl ?_
    refine go_f rfl rfl (t64 _) ?_
    refine go_br rfl (fun h28 => ?_) (fun h28 => ?_)
    · skip
      replace h28 := bI_n0.mp h28
      refine go_t 0 rfl ?_
      dsimp only
      refine go_gR rfl hx.k rfl hv ?_
      refine go_t 0 rfl ?_
      dsimp only
      refine go_bastC (k := dg w j) rfl hr.k hr.c rfl (by show (nI (6 - j - 1)).toInt8.toInt32.toInt8.toInt32 = nI (5 - j); rw [show 6 - j - 1 = 5 - j by omega, by_n (by omega), by_n (by omega)]) rfl (show dg w j < 6 from Nat.lt_succ_of_le ((nI_leI (a := dg w j) (b := 5) (by omega) (by decide)).mp h28.2)) (by decide) ?_
      refine go_t 7 rfl ?_
      have hd : dg w j < 6 := Nat.lt_succ_of_le ((nI_leI (a := dg w j) (b := 5) (by omega) (by decide)).mp h28.2)
      rw [nI_with hd10, nI_div10 hx2, nI_m1s]
      refine kk _ _ ⟨_, _, by rw [div_s, wishS, if_pos hd, show 6 - (j + 1) = 6 - j - 1 by omega], rfl, fun b hb => by rw [wr_ne hb]; exact hC1 b hb, fun h63 i hi => ?_⟩
      by_cases e : i = j
      · subst e; rw [wrs]
      · rw [wrk (wishS_ne h63 (show i < j by omega) hj)]; exact hr1 h63 i (by omega)
    · skip
      replace h28 := bI_0.mp (Decidable.not_not.mp h28)
      refine go_t 0 rfl ?_
      refine go_ret rfl ?_
      have hno : ¬ okW w := fun q => h28 ⟨nI_pos' (by omega), nI_le (a := dg w j) (b := 5) (by have := (wishS_63 q.1 hj).1; omega) (by decide)⟩
      exact ⟨by rw [bI_f hno], C1, rfl, hC1, fun q => absurd q hno⟩
  · rintro _ _ ⟨C1, z, rfl, rfl, hC1, hr1⟩
    have hS := wishS_64 (w := w) 6
    have hx2 : w / 10 ^ 6 < 2 ^ 31 := Nat.lt_of_le_of_lt (Nat.div_le_self _ _) hw
    have fin : ∀ b : Int32, b = bI (okW w) → (some (Value.int b) = some (Value.int (bI (okW w))) ∧ ∃ C', mk L D C1 M R n s = mk L D C' M R n s ∧ (∀ b, b ≠ r → C' b = C b) ∧ (okW w → ∀ j, j < 6 → C' r (dg w j) = nI (5 - j))) := fun b hb => ⟨by rw [hb], C1, rfl, hC1, fun q => hr1 q.1⟩
    refine go_t 0 rfl ?_
    refine go_nx rfl ?_
    refine go_t 0 rfl ?_
    refine go_br rfl (fun h57 => ?_) (fun h57 => ?_)
    · skip
      refine go_t 0 rfl ?_
      refine go_ret rfl ?_
      refine fin 0 (bI_f (fun q => h57 ?_)).symm
      rw [show w / 10 ^ 6 = 0 from Nat.div_eq_of_lt (Nat.lt_of_lt_of_le q.2 (by decide))]
      rfl
    · skip
      replace h57 := Decidable.not_not.mp h57
      refine go_t 0 rfl ?_
      refine go_br rfl (fun h63 => ?_) (fun h63 => ?_)
      · skip
        refine go_t 0 rfl ?_
        refine go_ret rfl ?_
        refine fin 0 (bI_f (fun q => h63 ?_)).symm
        rw [q.1]
        rfl
      · skip
        replace h63 := Decidable.not_not.mp h63
        refine go_t 0 rfl ?_
        refine go_ret rfl ?_
        refine fin 1 (bI_t ⟨?_, ?_⟩).symm
        · exact (nI_eq (a := wishS w 6) (b := 63) (by omega) (by decide)).mp h63
        · have := (nI_zero hx2).mp h57
          omega
end WC
