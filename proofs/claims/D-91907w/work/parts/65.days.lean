/-! OPERATION: days -/
set_option maxRecDepth 100000
section O5
variable {d L n s : Nat} {D : Nat → Nat × Nat} {C M P : Nat → Nat → Int32} {R : Nat → Nat → Option Nat} {m : Mem} {xs : Nat → Int32} {F : Nat → Prop} {f : Nat → Nat}
/-- on how many of j days from a on the set carries -/
def dyN (P : Nat → Nat → Int32) (r S a : Nat) (kn : Int32) : Nat → Nat
  | 0 => 0
  | j + 1 => if carP P (nI (a + j)) kn r (S &&& inN P (nI (a + j)) kn (mN P)) then dyN P r S a kn j + 1 else dyN P r S a kn j
abbrev okDays (P : Nat → Nat → Int32) (r set a b k : Int32) : Prop := (0 ≤ r ∧ r ≤ 3) ∧ (0 ≤ set ∧ set < nI (2 ^ mN P)) ∧ (0 ≤ a ∧ a ≤ b ∧ b ≤ 999) ∧ (0 ≤ k ∧ k ≤ 999)
def wDays (P : Nat → Nat → Int32) (r set a b k : Int32) : Int32 := if okDays P r set a b k then nI (dyN P r.toNatClampNeg set.toNatClampNeg a.toNatClampNeg k (b.toNatClampNeg + 1 - a.toNatClampNeg)) else -1
theorem wr_ne_at {α : Type} {f : Nat → Nat → α} {a b k j : Nat} {v : α} (h : b ≠ a) : wr f a k v b j = f b j := by rw [wr_ne h]
theorem days_n {r set a b k : Int32} (hN : mN P ≤ 10) (h : okDays P r set a b k) : ∃ r' S a' b', r' < 4 ∧ S < 1024 ∧ a' ≤ b' ∧ b' < 1000 ∧ r = nI r' ∧ set = nI S ∧ a = nI a' ∧ b = nI b' ∧ wDays P r set a b k = nI (dyN P r' S a' k (b' + 1 - a')) := by
  obtain ⟨h1, ⟨h2, h3⟩, ⟨h4, h5, h6⟩, h7⟩ := h
  obtain ⟨r', hr, rfl⟩ := ru_of h1
  obtain ⟨S, hS, rfl⟩ := nI_of' h2
  obtain ⟨a', ha, rfl⟩ := nI_of' h4
  obtain ⟨b', hb, rfl⟩ := in_n 999 (N := 999) rfl ⟨Int32.le_trans h4 h5, h6⟩
  have hp : 2 ^ mN P ≤ 2 ^ 10 := Nat.pow_le_pow_right (by decide) hN
  have hS2 : S < 2 ^ mN P := (nI_ltI hS (by omega)).mp h3
  have hab : a' ≤ b' := (nI_leI ha (by omega)).mp h5
  refine ⟨r', S, a', b', hr, by omega, hab, by omega, rfl, rfl, rfl, rfl, ?_⟩
  rw [wDays, if_pos ⟨h1, ⟨h2, h3⟩, ⟨h4, h5, h6⟩, h7⟩, nI_clamp (by omega), nI_clamp hS, nI_clamp ha, nI_clamp (by omega)]
theorem pow_n {N : Nat} (h : N ≤ 10) : (1 : Int32) <<< (nI N &&& 31) = nI (2 ^ N) := by
  have : 2 ^ N ≤ 2 ^ 10 := Nat.pow_le_pow_right (by decide) h
  have e : nI 1 <<< (nI N &&& 31) = nI (1 * 2 ^ N) := nI_shl (by omega) (by omega)
  rw [Nat.one_mul] at e
  exact e
theorem mo16 (hV : VP P) (r set a b k : Int32) : MoOK P P 148 [.int r, .int set, .int a, .int b, .int k] (.int (wDays P r set a b k)) := by
  intro L D C M R n s hP
  have hN := hV.1.2.1
  have e1 : wr M 305 0 0 305 1 = nI (mN P) := (pr_rd (a := 305) (k := 1) ((pr_wr rfl).trans hP) rfl).trans hV.1.1
  refine ev_in rfl ?_
  refine go_t 0 rfl ?_
  refine go_pM rfl rfl rfl rfl ?_
  refine go_t 0 rfl ?_
  refine go_f rfl rfl (t104 _) ?_
  refine go_br rfl (fun h10 => ?_) (fun h10 => ?_)
  · skip
    replace h10 := bI_0.mp h10
    refine go_t 0 rfl ?_
    refine go_ret rfl ?_
    exact ⟨by rw [wDays, if_neg (fun q => h10 q.1)], _, rfl, (pr_wr rfl).trans hP⟩
  replace h10 := bI_n0.mp h10
  refine go_t 0 rfl ?_
  refine go_br rfl (fun h14 => ?_) (fun h14 => ?_)
  · skip
    refine go_t 0 rfl ?_
    refine go_ret rfl ?_
    exact ⟨by rw [wDays, if_neg (fun q => absurd q.2.1.1 (Int32.not_le.mpr h14))], _, rfl, (pr_wr rfl).trans hP⟩
  refine go_t 0 rfl ?_
  refine go_gM rfl rfl rfl rfl ?_
  rw [e1]
  refine go_t 0 rfl ?_
  dsimp only
  refine go_br rfl (fun h24 => ?_) (fun h24 => ?_)
  · skip
    refine go_t 0 rfl ?_
    refine go_ret rfl ?_
    exact ⟨by rw [wDays, if_neg (fun q => by rw [pow_n hN] at h24; exact absurd q.2.1.2 (Int32.not_lt.mpr h24))], _, rfl, (pr_wr rfl).trans hP⟩
  refine go_t 0 rfl ?_
  refine go_f rfl rfl (t91 _) ?_
  refine go_br rfl (fun h32 => ?_) (fun h32 => ?_)
  · skip
    replace h32 := bI_0.mp h32
    refine go_t 0 rfl ?_
    refine go_ret rfl ?_
    exact ⟨by rw [wDays, if_neg (fun q => h32 ⟨q.2.2.1.1, Int32.le_trans q.2.2.1.2.1 q.2.2.1.2.2⟩)], _, rfl, (pr_wr rfl).trans hP⟩
  replace h32 := bI_n0.mp h32
  refine go_t 0 rfl ?_
  refine go_f rfl rfl (t92 _ _ _ _) ?_
  refine go_br rfl (fun h45 => ?_) (fun h45 => ?_)
  · skip
    replace h45 := bI_0.mp h45
    refine go_t 0 rfl ?_
    refine go_ret rfl ?_
    exact ⟨by rw [wDays, if_neg (fun q => h45 q.2.2.1.2)], _, rfl, (pr_wr rfl).trans hP⟩
  replace h45 := bI_n0.mp h45
  refine go_t 0 rfl ?_
  refine go_f rfl rfl (t91 _) ?_
  refine go_br rfl (fun h54 => ?_) (fun h54 => ?_)
  rotate_left
  · skip
    replace h54 := bI_0.mp (Decidable.not_not.mp h54)
    refine go_t 0 rfl ?_
    refine go_ret rfl ?_
    exact ⟨by rw [wDays, if_neg (fun q => h54 q.2.2.2)], _, rfl, (pr_wr rfl).trans hP⟩
  replace h54 := bI_n0.mp h54
  have hok : okDays P r set a b k := ⟨h10, ⟨Int32.not_lt.mp h14, by rw [pow_n hN] at h24; exact Int32.not_le.mp h24⟩, ⟨h32.1, h45⟩, h54⟩
  obtain ⟨r', S, a', b', hr, hS, hab, hb, rfl, rfl, rfl, rfl, e0⟩ := days_n hN hok
  rw [e0]
  refine go_t 65 rfl ?_
  refine go_for (b' + 1 - a') (fun j Lc m => ∃ M', Lc = [some (.ref 305), some (.int (nI r')), some (.int (nI S)), some (.int (nI a')), some (.int (nI b')), some (.int k), some (.int (nI (dyN P r' S a' k j))), some (.int (nI (a' + j)))] ∧ m = mk L D C M' R n s ∧ pr M' = P) ⟨_, rfl, rfl, (pr_wr rfl).trans hP⟩ ?_ ?_
  · rintro j _ _ hj ⟨M1, rfl, rfl, hM1⟩ kk
    have hI := inN_1024 (P := P) (dk := nI (a' + j)) (kn := k) hN
    have hand : S &&& inN P (nI (a' + j)) k (mN P) < 1024 := Nat.lt_of_le_of_lt Nat.and_le_left hS
    have fin : ∀ v M2, pr M2 = P → v = dyN P r' S a' k (j + 1) → Go 1499 148 100 [some (.ref 305), some (.int (nI r')), some (.int (nI S)), some (.int (nI a')), some (.int (nI b')), some (.int k), some (.int (nI v)), some (.int (nI (a' + j)))] [] (mk L D C M2 R n s) _ := fun v M2 h1 h2 => by
      subst h2
      refine go_t 65 rfl (kk _ _ ⟨M2, ?_, rfl, h1⟩)
      rw [nI_1, Nat.add_assoc]
    refine go_t 0 rfl ?_
    refine go_bf rfl (by exact (nI_nlt (by omega) (by omega))) ?_
    refine go_t 0 rfl ?_
    refine go_c rfl rfl (t96 hM1 hV.1 _ _) (fun v77 m77 hq77 => ?_)
    obtain ⟨rfl, M2, rfl, hF, hH⟩ := hq77
    have hP2 : pr M2 = P := (hF.pr fun _ _ => wF_per).trans hM1
    refine go_t 0 rfl ?_
    refine go_gM rfl rfl rfl rfl ?_
    rw [hH.1]
    refine go_t 0 rfl ?_
    dsimp only
    refine go_c rfl rfl ((by rw [nI_and]; exact t127 hP2 hV.1 hV.2.1 hH hr hand)) (fun v88 m88 hq88 => ?_)
    obtain ⟨rfl, g, rfl⟩ := hq88
    refine go_br rfl (fun h91 => ?_) (fun h91 => ?_)
    · skip
      replace h91 := bI_0.mp h91
      exact fin _ _ ((pr_fu fun _ => rfl).trans hP2) (by rw [dyN, if_neg h91])
    · skip
      replace h91 := bI_n0.mp h91
      refine go_t 100 rfl ?_
      dsimp only
      rw [nI_1]
      exact fin _ _ ((pr_fu fun _ => rfl).trans hP2) (by rw [dyN, if_pos h91])
  · rintro _ _ ⟨M1, rfl, rfl, hM1⟩
    refine go_t 0 rfl ?_
    refine go_bt rfl (by exact (nI_lt (by omega) (by omega))) ?_
    refine go_t 0 rfl ?_
    refine go_ret rfl ?_
    exact ⟨rfl, M1, rfl, hM1⟩
theorem co16 (r set a b k : Int32) : CoOK P P 62 [.int r, .int set, .int a, .int b, .int k] (.int (wDays P r set a b k)) := by
  intro xs F f L D C M R n s h
  have hV := h.1
  have hN := hV.1.2.1
  have e1 : C 281 3 = nI (mN P) := h.2.1.2.1.1.trans hV.1.1
  have hp : 2 ^ mN P ≤ 2 ^ 10 := Nat.pow_le_pow_right (by decide) hN
  have hpos : 0 < 2 ^ mN P := Nat.pow_pos (by decide)
  have elt : ∀ v : Int32, v ≤ (1 : Int32) <<< (nI (mN P) &&& 31) - 1 ↔ v < nI (2 ^ mN P) := fun v => by
    rw [pow_n hN]
    have h1 : (nI (2 ^ mN P)).toInt = ((2 ^ mN P : Nat) : Int) := nI_toInt (by omega)
    rw [Int32.le_iff_toInt_le, Int32.lt_iff_toInt_lt, Int32.toInt_sub, h1, show (1 : Int32).toInt = 1 from rfl, Int.bmod_eq_of_le (by omega) (by omega)]
    omega
  refine ev_in rfl ?_
  refine go_t 0 rfl ?_
  refine go_f rfl rfl (t48 _) ?_
  refine go_br rfl (fun h4 => ?_) (fun h4 => ?_)
  · skip
    replace h4 := bI_0.mp h4
    refine go_t 0 rfl ?_
    refine go_ret rfl ?_
    exact ⟨by rw [wDays, if_neg (fun q => h4 q.1)], F, f, D, C, R, n, s, rfl, h, by omega, by omega⟩
  replace h4 := bI_n0.mp h4
  refine go_t 0 rfl ?_
  refine go_gI rfl rfl rfl rfl ?_
  rw [e1]
  refine go_t 0 rfl ?_
  dsimp only
  refine go_f rfl rfl (t37 _ _ _) ?_
  refine go_br rfl (fun h20 => ?_) (fun h20 => ?_)
  · skip
    replace h20 := bI_0.mp h20
    refine go_t 0 rfl ?_
    refine go_ret rfl ?_
    exact ⟨by rw [wDays, if_neg (fun q => h20 ⟨q.2.1.1, (elt _).mpr q.2.1.2⟩)], F, f, D, C, R, n, s, rfl, h, by omega, by omega⟩
  replace h20 := bI_n0.mp h20
  refine go_t 0 rfl ?_
  refine go_f rfl rfl (t37 _ _ _) ?_
  refine go_br rfl (fun h30 => ?_) (fun h30 => ?_)
  · skip
    replace h30 := bI_0.mp h30
    refine go_t 0 rfl ?_
    refine go_ret rfl ?_
    exact ⟨by rw [wDays, if_neg (fun q => h30 ⟨q.2.2.1.1, q.2.2.1.2.1⟩)], F, f, D, C, R, n, s, rfl, h, by omega, by omega⟩
  replace h30 := bI_n0.mp h30
  refine go_t 0 rfl ?_
  refine go_f rfl rfl (t38 _) ?_
  refine go_br rfl (fun h38 => ?_) (fun h38 => ?_)
  · skip
    replace h38 := bI_0.mp h38
    refine go_t 0 rfl ?_
    refine go_ret rfl ?_
    exact ⟨by rw [wDays, if_neg (fun q => h38 ⟨Int32.le_trans q.2.2.1.1 q.2.2.1.2.1, q.2.2.1.2.2⟩)], F, f, D, C, R, n, s, rfl, h, by omega, by omega⟩
  replace h38 := bI_n0.mp h38
  refine go_t 0 rfl ?_
  refine go_f rfl rfl (t38 _) ?_
  refine go_br rfl (fun h46 => ?_) (fun h46 => ?_)
  rotate_left
  · skip
    replace h46 := bI_0.mp (Decidable.not_not.mp h46)
    refine go_t 0 rfl ?_
    refine go_ret rfl ?_
    exact ⟨by rw [wDays, if_neg (fun q => h46 q.2.2.2)], F, f, D, C, R, n, s, rfl, h, by omega, by omega⟩
  replace h46 := bI_n0.mp h46
  have hok : okDays P r set a b k := ⟨h4, ⟨h20.1, (elt _).mp h20.2⟩, ⟨h30.1, h30.2, h38.2⟩, h46⟩
  obtain ⟨r', S, a', b', hr, hS, hab, hb, rfl, rfl, rfl, rfl, e0⟩ := days_n hN hok
  rw [e0]
  refine go_t 57 rfl ?_
  refine go_for (b' + 1 - a') (fun j Lc m => ∃ C' R', Lc = [some (.ref 281), some (.int (nI r')), some (.int (nI S)), some (.int (nI a')), some (.int (nI b')), some (.int k), some (.int (nI (dyN P r' S a' k j))), some (.int (nI (a' + j)))] ∧ m = mk L D C' M R' n s ∧ CI trT xs P F f L D C' R' n) ⟨C, R, rfl, rfl, h⟩ ?_ ?_
  · rintro j _ _ hj ⟨C1, R1, rfl, rfl, h1⟩ kk
    have hA := h1.2.1
    have hI := inN_1024 (P := P) (dk := nI (a' + j)) (kn := k) hN
    have hand : nsub (S &&& inN P (nI (a' + j)) k (mN P)) (inN P (nI (a' + j)) k (mN P)) = 0 := and_sub
    have fin : ∀ v C2 R2, CI trT xs P F f L D C2 R2 n → v = dyN P r' S a' k (j + 1) → Go 1499 62 114 [some (.ref 281), some (.int (nI r')), some (.int (nI S)), some (.int (nI a')), some (.int (nI b')), some (.int k), some (.int (nI v)), some (.int (nI (a' + j)))] [] (mk L D C2 M R2 n s) _ := fun v C2 R2 h1 h2 => by
      subst h2
      refine go_t 57 rfl (kk _ _ ⟨C2, R2, ?_, rfl, h1⟩)
      rw [nI_1, Nat.add_assoc]
    have e3 : C1 281 3 = P 305 1 := hA.2.1.1
    have z : nI (dyN P r' S a' k j) + 0 = nI (dyN P r' S a' k j) := Int32.add_zero _
    refine go_t 0 rfl ?_
    refine go_bf rfl (by exact (nI_nlt (by omega) (by omega))) ?_
    refine go_t 0 rfl ?_
    refine go_gR rfl rfl rfl rfl ?_
    refine go_t 0 rfl ?_
    refine go_gR rfl rfl rfl rfl ?_
    refine go_t 0 rfl ?_
    refine go_gI rfl rfl rfl rfl ?_
    rw [e3]
    refine go_t 0 rfl ?_
    refine go_c rfl rfl (t81 (d := 1495) hV.1 hA.2.2.2.1 hA.2.2.2.2.1 ho286 _ _) (fun v80 m80 hq80 => ?_)
    obtain ⟨rfl, C2, rfl, hF2, hH2⟩ := hq80
    have hC2 : ∀ a k, a < 337 → wQ a k = false → C2 a k = C1 a k := fun a k h1 h2 => by
      refine hF2 a k (wH_ob (fun q => ?_) (fun q => ?_) (fun q => ?_)) <;> (subst q; simp [wQ] at h2)
    have hC2h : ∀ a, 337 ≤ a → C2 a = C1 a := fun a ha => funext fun k => hF2 a k (wH_ob (by omega) (by omega) (by omega))
    have hl2 : CIl P C2 := by
      rcases hA.2.2.1 with q | q
      · exact Or.inl (by rw [hF2 _ _ (wH_ob (by decide) (by decide) (by decide))]; exact q)
      · exact Or.inr (q.fr (hF2 _ _ (wH_ob (by decide) (by decide) (by decide))) (funext fun k => hF2 _ k (wH_ob (by decide) (by decide) (by decide))) (funext fun k => hF2 _ k (wH_ob (by decide) (by decide) (by decide))) (funext fun k => hF2 _ k (wH_ob (by decide) (by decide) (by decide))))
    have h2 : CI trT xs P F f L D C2 R1 n := h1.tr hC2 hC2h (fun _ _ => rfl) hl2
    have h3 : CI trT xs P F f L D (wr C2 291 1 (nI (S &&& inN P (nI (a' + j)) k (mN P)))) (wr R1 291 0 (some 286)) n := by
      refine h2.tr (fun a k h1 h2 => wr_ne_at (fun q => by subst q; simp [wQ] at h2)) (fun a ha => wr_ne (by omega)) (fun a ha => wr_ne ha) ?_
      rcases hl2 with q | q
      · exact Or.inl (by rw [wr_ne (by decide)]; exact q)
      · exact Or.inr (q.fr (by rw [wr_ne (by decide)]) (wr_ne (by decide)) (wr_ne (by decide)) (wr_ne (by decide)))
    refine go_t 0 rfl ?_
    refine go_gR rfl rfl rfl rfl ?_
    refine go_t 0 rfl ?_
    refine go_gR rfl rfl rfl rfl ?_
    refine go_gI rfl rfl rfl rfl ?_
    rw [hH2.1]
    refine go_t 0 rfl ?_
    dsimp only
    refine go_f rfl rfl ((by rw [nI_and]; exact t53 (d := 1298) (F := F) hN h2.2.1.2.2.2.2.2.1 hr (h2.2.1.2.2.2.2.2.2.2.2 r' hr) (fun a h => (h2.2.1.2.2.2.2.2.2.1 a h).1) ho286 ⟨by decide, by decide, by decide⟩ hH2 hand)) ?_
    refine go_br rfl (fun h103 => ?_) (fun h103 => ?_)
    · skip
      replace h103 := bI_0.mp h103
      refine go_t 114 rfl ?_
      dsimp only
      rw [z]
      exact fin _ _ _ h3 (by rw [dyN, if_neg h103])
    · skip
      replace h103 := bI_n0.mp h103
      refine go_t 114 rfl ?_
      dsimp only
      rw [nI_1]
      exact fin _ _ _ h3 (by rw [dyN, if_pos h103])
  · rintro _ _ ⟨C1, R1, rfl, rfl, h1⟩
    refine go_t 0 rfl ?_
    refine go_bt rfl (by exact (nI_lt (by omega) (by omega))) ?_
    refine go_t 0 rfl ?_
    refine go_ret rfl ?_
    exact ⟨rfl, F, f, D, C1, R1, n, s, rfl, h1, by omega, by omega⟩
end O5
