/-! THE MODEL'S SMALL METHODS -/
set_option maxRecDepth 100000
def bitI (s m : Int32) : Int32 := (s >>> (m &&& 31)) &&& 1
def bI (p : Prop) [Decidable p] : Int32 := if p then 1 else 0
theorem bI_t {p : Prop} [Decidable p] (h : p) : bI p = 1 := if_pos h
theorem bI_f {p : Prop} [Decidable p] (h : ¬ p) : bI p = 0 := if_neg h
theorem bI_0 {p : Prop} [Decidable p] : bI p = 0 ↔ ¬ p := by
  unfold bI
  split <;> simp_all
theorem bI_n0 {p : Prop} [Decidable p] : ¬ bI p = 0 ↔ p := by
  unfold bI
  split <;> simp_all
section M1
variable {d L n s : Nat} {D : Nat → Nat × Nat} {I : Nat → Nat → Int32} {Rd : Nat → Nat → Option Nat} {m : Mem}
theorem t97 (o : Nat) (v k : Int32) : Ev d 97 [.ref o, .int v, .int k] m (Rt (Is (some (.int (bI (bitI v k = 1)))) m)) := by
  refine ev_in rfl (go_s 0 rfl (go_br rfl (fun h => ?_) (fun h => ?_)))
  · exact go_s 0 rfl (go_ret rfl ⟨by rw [bI_f (show ¬ bitI v k = 1 from h)], rfl⟩)
  · exact go_s 0 rfl (go_ret rfl ⟨by rw [bI_t (show bitI v k = 1 from Decidable.not_not.mp h)], rfl⟩)
theorem t90 (v : Int32) : Ev d 90 [.ref 305, .int v] (mm L D I Rd n s) (Rt (Is (some (.int (bI (0 ≤ v ∧ v < I 305 1)))) (mm L D I Rd n s))) := by
  refine ev_in rfl (go_s 0 rfl (go_br rfl (fun h => ?_) (fun h => ?_)))
  · exact go_s 0 rfl (go_ret rfl ⟨by rw [bI_f (fun q => absurd q.1 (Int32.not_le.mpr h))], rfl⟩)
  · refine go_s 0 rfl (go_br rfl (fun h2 => ?_) (fun h2 => ?_))
    · exact go_s 0 rfl (go_ret rfl ⟨by rw [bI_f (fun q => absurd q.2 (Int32.not_lt.mpr h2))], rfl⟩)
    · exact go_s 0 rfl (go_ret rfl ⟨by rw [bI_t ⟨Int32.not_lt.mp h, Int32.not_le.mp h2⟩], rfl⟩)
def hdS (set b : Int32) (bl : Nat → Int32) : Nat → Int32
  | 0 => 0
  | k + 1 => if bitI set (Int32.ofNat k) = 1 ∧ (b = -1 ∨ bl k = b) then hdS set b bl k + 1 else hdS set b bl k
theorem nI_ix {k N : Nat} (h : k < N) (hN : N ≤ 100000) : ¬ (Int32.ofNat k < 0 ∨ N ≤ (Int32.ofNat k).toNatClampNeg) := by
  have h2 : (Int32.ofNat k).toNatClampNeg = k := Int32.toNatClampNeg_ofNat_of_lt (by omega)
  have h3 : ¬ Int32.ofNat k < 0 := Int32.not_lt.mpr ((Int32.ofNat_le_ofNat (by decide : 0 < 2 ^ 31) (by omega)).mpr (Nat.zero_le k))
  exact fun q => q.elim h3 (fun q => by rw [h2] at q; omega)
theorem nI_nt {k : Nat} (h : k < 2 ^ 31) : (Int32.ofNat k).toNatClampNeg = k := Int32.toNatClampNeg_ofNat_of_lt h
theorem t130 {M : Nat} (hM : M ≤ 10) (hI : I 305 1 = Int32.ofNat M) (set b : Int32) : Ev (d + 1) 130 [.ref 305, .int set, .int b] (mm L D I Rd n s) (Rt (Is (some (.int (hdS set b (I 314) M))) (mm L D I Rd n s))) := by
  refine ev_in rfl (go_s 5 rfl ?_)
  have loop : ∀ j k, k + j = M → Go (d + 1) 130 5 [some (.ref 305), some (.int set), some (.int b), some (.int (hdS set b (I 314) k)), some (.int (Int32.ofNat k))] [] (mm L D I Rd n s) (Rt (Is (some (.int (hdS set b (I 314) M))) (mm L D I Rd n s))) := by
    intro j
    induction j with
    | zero =>
      intro k hk
      refine go_s 0 rfl (go_br rfl (fun h => ?_) (fun h => ?_))
      · refine go_s 0 rfl (go_ret rfl ⟨?_, rfl⟩)
        rw [show k = M by omega]
      · exfalso
        rw [hI, show k = M by omega] at h
        exact h (Int32.le_refl _)
    | succ j ih =>
      intro k hk
      have next : ∀ v : Int32, v = hdS set b (I 314) (k + 1) → Go (d + 1) 130 44 [some (.ref 305), some (.int set), some (.int b), some (.int v), some (.int (Int32.ofNat k))] [] (mm L D I Rd n s) (Rt (Is (some (.int (hdS set b (I 314) M))) (mm L D I Rd n s))) := by
        intro v hv
        subst hv
        refine go_s 5 rfl ?_
        have e : Int32.ofNat k + 1 = Int32.ofNat (k + 1) := by rw [Int32.ofNat_add]; rfl
        rw [e]
        exact ih (k + 1) (by omega)
      refine go_s 0 rfl (go_br rfl (fun h => ?_) (fun h => ?_))
      · exfalso
        rw [hI] at h
        have := (Int32.ofNat_le_ofNat (show M < 2 ^ 31 by omega) (by omega)).mp h
        omega
      · refine go_s 0 rfl (go_f rfl rfl (t97 305 set (Int32.ofNat k)) ?_)
        refine go_br rfl (fun h1 => ?_) (fun h1 => ?_)
        · refine next _ ?_
          rw [hdS, if_neg (fun q => absurd q.1 (bI_0.mp h1))]
        · have h1 := bI_n0.mp h1
          have yes : (b = -1 ∨ I 314 k = b) → Go (d + 1) 130 40 [some (.ref 305), some (.int set), some (.int b), some (.int (hdS set b (I 314) k)), some (.int (Int32.ofNat k))] [] (mm L D I Rd n s) (Rt (Is (some (.int (hdS set b (I 314) M))) (mm L D I Rd n s))) := fun hq => by
            refine go_s 44 rfl (next _ ?_)
            rw [hdS, if_pos ⟨h1, hq⟩]
          refine go_s 0 rfl (go_br rfl (fun h2 => yes (Or.inl h2)) (fun h2 => ?_))
          refine go_s 0 rfl (go_chk rfl (nI_ix (show k < 10 by omega) (by decide)) ?_)
          rw [nI_nt (by omega)]
          refine go_s 0 rfl (go_br rfl (fun h3 => ?_) (fun h3 => yes (Or.inr (Decidable.not_not.mp h3))))
          refine next _ ?_
          rw [hdS, if_neg (fun q => q.2.elim h2 h3)]
  exact loop M 0 (by omega)
end M1
