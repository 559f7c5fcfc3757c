/-! OPERATION: wish, the component's walk -/
set_option maxRecDepth 100000
section WL
variable {d L n s : Nat} {D : Nat → Nat × Nat} {C M P : Nat → Nat → Int32} {R : Nat → Nat → Option Nat} {m : Mem} {xs : Nat → Int32} {F : Nat → Prop} {f : Nat → Nat} {k w : Nat}
theorem co17 (a o : Int32) : CoOK P (uWish P a o) 63 [.int a, .int o] (.int (bI (okWish P a o))) := by
  intro xs F f L D C M R n s h
  have hV := h.1
  have hN := hV.1.2.1
  have e1 : C 281 3 = nI (mN P) := h.2.1.2.1.1.trans hV.1.1
  have b8 := h.2.1.2.2.2.2.2.2.2.1
  have nok : ¬ okWish P a o → ∀ {F' D' C' R' n' s'}, CI trT xs P F' f L D' C' R' n' → n' ≤ n + 16000 → s' ≤ s + 90000 → (some (Value.int 0) = some (Value.int (bI (okWish P a o))) ∧ ∃ F'' f'' D'' C'' R'' n'' s'', mk L D' C' M R' n' s' = mk L D'' C'' M R'' n'' s'' ∧ CI trT xs (uWish P a o) F'' f'' L D'' C'' R'' n'' ∧ n'' ≤ n + 16000 ∧ s'' ≤ s + 90000) := fun q F' D' C' R' n' s' q1 q2 q3 => ⟨by rw [bI_f q], F', f, D', C', R', n', s', rfl, by rw [uWish, if_neg q]; exact q1, q2, q3⟩
  refine ev_in rfl ?_
  refine go_t 0 rfl ?_
  refine go_f rfl rfl (t36 e1 hN a) ?_
  refine go_br rfl (fun h5 => ?_) (fun h5 => ?_)
  · skip
    replace h5 := bI_0.mp h5
    refine go_t 0 rfl ?_
    refine go_ret rfl ?_
    exact nok (fun q => h5 (by rw [← hV.1.1]; exact q.1)) h (by omega) (by omega)
  replace h5 := bI_n0.mp h5
  refine go_t 0 rfl ?_
  refine go_br rfl (fun h10 => ?_) (fun h10 => ?_)
  rotate_left
  · skip
    refine go_t 0 rfl ?_
    refine go_ret rfl ?_
    refine nok (fun q => h10 ?_) h (by omega) (by omega)
    rcases q.2 with e | ⟨e, _⟩
    · rw [e]; exact Int32.le_refl _
    · exact Int32.le_trans (by decide) e
  rw [← hV.1.1] at h5
  obtain ⟨k, hk, rfl⟩ := mem_n hV h5
  have hk2 : k < 2 ^ 31 := by omega
  have hob : Ob L (fu D n (19, 0)) n 19 0 := Ob.new b8
  have hob2 : Ob L (fu (fu D n (19, 0)) (n + 1) (100, 6)) n 19 0 := hob.up (by omega)
  have hr2 : Ob L (fu (fu D n (19, 0)) (n + 1) (100, 6)) (n + 1) 100 6 := Ob.new (by omega)
  have hR2 : ∀ b, b < n → wr (fu (fu R n fun _ => none) (n + 1) fun _ => none) n 0 (some (n + 1)) b = R b := fun b hb => by rw [wr_ne (by omega), fu_ne (by omega), fu_ne (by omega)]
  have hRn : wr (fu (fu R n fun _ => none) (n + 1) fun _ => none) n 0 (some (n + 1)) n 0 = some (n + 1) := wrs ..
  refine go_new rfl b8 ?_
  refine go_t 0 rfl ?_
  refine go_f (cmd_i0 rfl rfl rfl (cw_l hob.c)) rfl (t225 (by omega) hob (by omega)) ?_
  refine go_t 0 rfl ?_
  by_cases ho : o = -1
  · subst ho
    have ok : okWish P (nI k) (-1) := ⟨h5, Or.inl rfl⟩
    have hCI := (h.new2 (C3 := fu (fu C n fun _ => 0) (n + 1) fun _ => 0) (z1 := (19, 0)) (z2 := (100, 6)) (fun b hb => by rw [fu_ne (by omega), fu_ne (by omega)]) hR2).off (k := k)
    refine go_nx rfl ?_
    refine go_t 0 rfl ?_
    refine go_gR rfl rfl rfl rfl ?_
    refine go_t 0 rfl ?_
    refine go_nx rfl ?_
    refine go_t 0 rfl ?_
    refine go_aastN (k := k) rfl rfl rfl rfl rfl rfl (by omega) (by decide) ?_
    refine go_t 0 rfl (go_ret rfl ?_)
    exact ⟨by rw [bI_t ok], _, _, _, _, _, _, _, rfl, by rw [uWish, if_pos ok, if_pos rfl, nI_clamp hk2]; exact hCI, by omega, by omega⟩
  · have h0 : 0 ≤ o := by
      have h1 := Int32.le_iff_toInt_le.mp h10
      have h2 : o.toInt ≠ -1 := fun q => ho (Int32.toInt_inj.mp q)
      have h3 : (-1 : Int32).toInt = -1 := rfl
      exact Int32.le_iff_toInt_le.mpr (show (0 : Int) ≤ o.toInt by omega)
    obtain ⟨w, hw, rfl⟩ := nI_of' h0
    have okI : okWish P (nI k) (nI w) ↔ okW w := by
      constructor
      · rintro ⟨_, q | ⟨_, q⟩⟩
        · exact absurd q ho
        · rw [nI_clamp hw] at q; exact q
      · intro q
        exact ⟨h5, Or.inr ⟨h0, by rw [nI_clamp hw]; exact q⟩⟩
    refine go_bf rfl ho ?_
    refine go_t 0 rfl ?_
    refine go_c (cmd_v1 rfl rfl hob2.k rfl) rfl (t226 (d := 1495) hob2 hr2 hRn hw) (fun v1 m1 hq => ?_)
    obtain ⟨rfl, C1, rfl, hC1, hr1⟩ := hq
    have hN2 := h.new2 (C3 := C1) (z1 := (19, 0)) (z2 := (100, 6)) (fun b hb => by rw [hC1 b (by omega), fu_ne (by omega), fu_ne (by omega)]) hR2
    by_cases hw6 : okW w
    · rw [bI_t hw6]
      have hCI := hN2.put (k := k) (x := n) (r := n + 1) hw6.1 (Or.inr (Or.inl rfl)) (Or.inr (Or.inr rfl)) hob2 hr2 hRn (hr1 hw6)
      have ok := okI.mpr hw6
      refine go_nx rfl ?_
      refine go_t 0 rfl ?_
      refine go_gR rfl rfl rfl rfl ?_
      refine go_t 0 rfl ?_
      refine go_bt rfl ho ?_
      refine go_t 0 rfl ?_
      refine go_aast (k := k) rfl rfl rfl rfl rfl rfl (by omega) (by decide) hob2.k rfl ?_
      refine go_t 0 rfl (go_ret rfl ?_)
      exact ⟨by rw [bI_t ok], _, _, _, _, _, _, _, rfl, by rw [uWish, if_pos ok, if_neg ho, nI_clamp hk2, nI_clamp hw]; exact hCI, by omega, by omega⟩
    · rw [bI_f hw6]
      refine go_nx rfl ?_
      refine go_t 0 rfl (go_ret rfl ?_)
      exact nok (fun q => hw6 (okI.mp q)) hN2 (by omega) (by omega)
end WL
