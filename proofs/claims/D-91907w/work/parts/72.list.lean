/-! LISTS: add -/
set_option maxRecDepth 100000
section OC
variable {d L n s : Nat} {D : Nat → Nat × Nat} {C M P : Nat → Nat → Int32} {R : Nat → Nat → Option Nat} {m : Mem} {xs : Nat → Int32} {F : Nat → Prop} {f : Nat → Nat}
/-- System.arraycopy from the start of one array of references to another's -/
theorem go_acopy {y pc p idx q e lq le k : Nat} {Lc : Lcs} {S : List Value} {Q : Res → Prop} {b : Nat} {cc : Int32} (h : code_of y pc = some (.invokestatic idx, p, 902, b, cc)) (hq : kf L D q = (103, lq)) (he : kf L D e = (103, le)) (hq2 : cw q = true) (he2 : cw e = true) (hoq : opn q = true) (hoe : opn e = true) (hS : Nat.ble S.length 20 = true) (h1 : k ≤ lq) (h2 : k ≤ le) (hk : k ≤ 100000) (hne : ¬ q = e) (hlie : ∀ i, i < k → lieO (kf L D) (R q i) = true)
    (kk : Go d y p Lc S (mk L D C M (fu R e (cpyf (R q) (R e) 0 0 k)) n s) Q) : Go d y pc Lc (.int (nI k) :: .int 0 :: .ref e :: .int 0 :: .ref q :: S) (mk L D C M R n s) Q := by
  refine go_nx (p := p) (L' := Lc) (S' := S) (m' := mk L D C M (fu R e (cpyf (R q) (R e) 0 0 k)) n s) ?_ kk
  rw [cmd, h]
  show acopy p Lc (.int (nI k) :: .int 0 :: .ref e :: .int 0 :: .ref q :: S) (kf L D, j2 C M, rf R, n, s) = _
  unfold acopy
  dsimp only
  rw [hq, he]
  dsimp only
  have ek : (nI k).toNatClampNeg = k := nI_nt (by omega)
  have e0 : (0 : Int32).toNatClampNeg = 0 := rfl
  rw [cw_l hq2, cw_l he2, hS, ek, e0, rf_op hoq, rf_op hoe]
  show chk _ (chk _ _) = _
  rw [chk_t ⟨by decide, by decide, nI_pos (by omega), by omega, by omega, hne⟩, chk_t (fun i hi => by rw [Nat.zero_add]; exact hlie i hi), rf_new hoe]
  rfl
/-- getClass of an array of objects -/
theorem go_cls {y pc p idx q lq : Nat} {Lc : Lcs} {S : List Value} {Q : Res → Prop} {cc : Int32} (h : code_of y pc = some (.invokevirtual idx, p, 901, 0, cc)) (hq : kf L D q = (103, lq)) (hq2 : cw q = true) (hS : Nat.ble S.length 20 = true) (kk : Go d y p Lc (.ref 277 :: S) (mk L D C M R n s) Q) : Go d y pc Lc (.ref q :: S) (mk L D C M R n s) Q := by
  refine go_nx (p := p) (L' := Lc) (S' := .ref 277 :: S) (m' := mk L D C M R n s) ?_ kk
  rw [cmd, h]
  show (bif Nat.beq (kf L D q).1 103 && Nat.ble 281 q && Nat.ble S.length 20 then nx p Lc (.ref 277 :: S) (mk L D C M R n s) else none) = _
  rw [hq, cw_l hq2, hS]
  rfl
/-- a list with its array -/
def LsX (L : Nat) (D : Nat → Nat × Nat) (C : Nat → Nat → Int32) (R : Nat → Nat → Option Nat) (n a N cap e : Nat) (f : Nat → Nat) : Prop :=
  Ob L D a 21 0 ∧ C a 2 = nI N ∧ R a 1 = some e ∧ N ≤ cap ∧ (∀ i, i < N → rf R e i = some (f i)) ∧ (∀ i, i < N → f i < n ∧ mayLie 103 (kf L D (f i)).1 = true) ∧ ((e = 1 ∧ cap = 0) ∨ (Ob L D e 103 cap ∧ 337 ≤ e ∧ e < n ∧ 10 ≤ cap ∧ cap ≤ 90000 ∧ cap ≤ 10 + 2 * N)) ∧ a ≠ e
theorem LsX.ls {a N cap e : Nat} (h : LsX L D C R n a N cap e f) : LsR L D C R n a N f := by
  obtain ⟨h1, h2, h3, h4, h5, h6, h7, h8⟩ := h
  refine ⟨h1, h2, e, cap, h3, h4, h5, ?_⟩
  rcases h7 with q | ⟨q1, q2, q3, q4, q5⟩
  · exact Or.inl q
  · exact Or.inr ⟨q1, q2, q3, q4, by omega⟩
theorem t10 {a b c : Nat} (ha : a ≤ 90000) (hb : b ≤ 90000) (hc : c ≤ 90000) (h1 : 1 ≤ b) : Ev d 10 [.int (nI a), .int (nI b), .int (nI c)] m (Rt (Is (some (.int (nI (a + max b c)))) m)) := by
  have em : (if nI b < nI c then nI c else nI b) = nI (max b c) := by
    by_cases h : b < c
    · rw [if_pos (nI_lt h (by omega)), Nat.max_eq_right (by omega)]
    · rw [if_neg (nI_nlt (by omega) (by omega)), Nat.max_eq_left (by omega)]
  have hm : max b c ≤ 90000 := Nat.max_le.mpr ⟨hb, hc⟩
  have hm1 : 1 ≤ max b c := Nat.le_trans h1 (Nat.le_max_left _ _)
  refine ev_in rfl ?_
  refine go_t 0 rfl ?_
  dsimp only
  rw [em, nI_add]
  refine go_bf rfl (by exact nI_nle (by omega) (by omega)) ?_
  refine go_t 0 rfl ?_
  refine go_bf rfl (by exact nI_nlt (a := 2147483639) (by omega) (by decide)) ?_
  refine go_t 0 rfl ?_
  exact go_ret rfl ⟨rfl, rfl⟩
theorem t15 {q lq k : Nat} (hn : 337 ≤ n) (hq : Ob L D q 103 lq) (hqn : q < n) (hle : lq ≤ k) (hk : k ≤ 90000) (hlie : ∀ i, i < lq → ∃ v, R q i = some v ∧ v < n ∧ mayLie 103 (kf L D v).1 = true) : Ev d 15 [.ref q, .int (nI k), .ref 277] (mk L D C M R n s) (Rt (Is (some (.ref n)) (mk L (fu D n (103, k)) (fu C n fun _ => 0) M (fu R n (cpyf (R q) (fun _ => none) 0 0 lq)) (n + 1) (s + k)))) := by
  have hq' : Ob L (fu D n (103, k)) q 103 lq := hq.up (by omega)
  have hnew : Ob L (fu D n (103, k)) n 103 k := Ob.new hn
  have emin : (if nI k < nI lq then nI k else nI lq) = nI lq := if_neg (nI_nlt hle (by omega))
  refine ev_in rfl ?_
  refine go_t 0 rfl ?_
  refine go_nx rfl ?_
  refine go_t 0 rfl ?_
  refine go_newA (k := k) rfl rfl hn rfl (by omega) ?_
  refine go_t 0 rfl ?_
  refine go_alen rfl hq'.k rfl ?_
  refine go_t 0 rfl ?_
  rw [emin]
  refine go_acopy (k := lq) rfl hq'.k hnew.k hq'.c hnew.c hq'.o hnew.o rfl (Nat.le_refl _) hle (by omega) (by omega) (fun i hi => ?_) ?_
  · rw [fu_ne (show q ≠ n by omega)]
    obtain ⟨v, h1, h2, h3⟩ := hlie i hi
    rw [h1]
    show mayLie 103 (kf L (fu D n (103, k)) v).1 = true
    rw [kf_up (by omega)]
    exact h3
  · refine go_t 0 rfl (go_ret rfl ⟨rfl, ?_⟩)
    rw [fu_fu, fu_ne (show q ≠ n by omega), fu_self]
theorem t14 {q lq k : Nat} (hn : 337 ≤ n) (hq : Ob L D q 103 lq) (hqn : q < n) (hle : lq ≤ k) (hk : k ≤ 90000) (hlie : ∀ i, i < lq → ∃ v, R q i = some v ∧ v < n ∧ mayLie 103 (kf L D v).1 = true) : Ev (d + 1) 14 [.ref q, .int (nI k)] (mk L D C M R n s) (Rt (Is (some (.ref n)) (mk L (fu D n (103, k)) (fu C n fun _ => 0) M (fu R n (cpyf (R q) (fun _ => none) 0 0 lq)) (n + 1) (s + k)))) := by
  refine ev_in rfl ?_
  refine go_t 0 rfl ?_
  refine go_cls rfl hq.k hq.c rfl ?_
  refine go_f rfl rfl (t15 hn hq hqn hle hk hlie) ?_
  exact go_ret rfl ⟨rfl, rfl⟩
/-- what a list that is full becomes: capacity -/
def capN (cap : Nat) : Nat := if cap = 0 then 10 else cap + cap / 2
theorem t7 {a N cap e : Nat} (h : LsX L D C R n a N cap e f) (hn : 337 ≤ n) (han : a < n) (hf : N = cap) (hc : cap ≤ 60000) : Ev (d + 2) 7 [.ref a, .int (nI (N + 1))] (mk L D C M R n s)
    (Rt (Is (some (.ref n)) (mk L (fu D n (103, capN cap)) (fu C n fun _ => 0) M (wr (fu R n (cpyf (R e) (fun _ => none) 0 0 cap)) a 1 (some n)) (n + 1) (s + capN cap)))) := by
  obtain ⟨h1, h2, h3, h4, h5, h6, h7, h8⟩ := h
  have ha : rf R a 1 = some e := by rw [h1.R]; exact h3
  subst hf
  have h1' : ∀ z, Ob L (fu D n z) a 21 0 := fun z => h1.up (by omega)
  refine ev_in rfl ?_
  refine go_t 0 rfl ?_
  refine go_gR rfl h1.k rfl ha ?_
  rcases h7 with ⟨rfl, rfl⟩ | ⟨q1, q2, q3, q4, q5⟩
  · refine go_alen rfl (len := 0) (t := 103) rfl rfl ?_
    refine go_t 0 rfl ?_
    refine go_nx rfl ?_
    refine go_t 0 rfl ?_
    refine go_gR rfl h1.k rfl ha ?_
    refine go_t 0 rfl ?_
    refine go_nx rfl ?_
    refine go_t 0 rfl ?_
    refine go_newA (k := 10) rfl rfl hn rfl (by decide) ?_
    refine go_t 0 rfl ?_
    refine go_pR rfl (h1' _).k h1.c h1.o rfl ?_
    refine go_ret rfl ⟨rfl, ?_⟩
    rw [show cpyf (R 1) (fun _ => none) 0 0 0 = fun _ => none from funext fun k => if_neg (fun q => by omega)]
    rfl
  · have hcap : capN N = N + N / 2 := if_neg (by omega)
    rw [hcap]
    refine go_alen rfl q1.k rfl ?_
    refine go_t 0 rfl ?_
    refine go_bt rfl (by exact Int32.not_le.mp (nI_nle (by omega) (by omega))) ?_
    refine go_t 0 rfl ?_
    dsimp only
    have e1 : nI (N + 1) - nI N = nI 1 := by
      have : nI (N + 1) - nI N = nI (N + 1 - N) := pk_sub (by omega)
      rw [this]
      congr 1
      omega
    have e2 : nI N >>> (1 &&& 31) = nI (N / 2) := nI_shr (a := N) (k := 1) (by decide) (by omega)
    rw [e1, e2]
    have e3 : max 1 (N / 2) = N / 2 := Nat.max_eq_right (by omega)
    have hnl := t10 (d := d + 1) (m := mk L D C M R n s) (a := N) (b := 1) (c := N / 2) (by omega) (by decide) (by omega) (by decide)
    rw [e3] at hnl
    refine go_f rfl rfl hnl ?_
    refine go_t 0 rfl ?_
    refine go_gR rfl h1.k rfl ha ?_
    refine go_t 0 rfl ?_
    refine go_f rfl rfl (t14 hn q1 q3 (by omega) (by omega) (fun i hi => ⟨f i, by rw [← Ob.R (R := R) q1]; exact h5 i hi, h6 i hi⟩)) ?_
    refine go_t 0 rfl ?_
    refine go_pR rfl (h1' _).k h1.c h1.o rfl ?_
    exact go_ret rfl ⟨rfl, rfl⟩
theorem t6 {a N cap e : Nat} (h : LsX L D C R n a N cap e f) (hn : 337 ≤ n) (han : a < n) (hf : N = cap) (hc : cap ≤ 60000) : Ev (d + 3) 6 [.ref a] (mk L D C M R n s)
    (Rt (Is (some (.ref n)) (mk L (fu D n (103, capN cap)) (fu C n fun _ => 0) M (wr (fu R n (cpyf (R e) (fun _ => none) 0 0 cap)) a 1 (some n)) (n + 1) (s + capN cap)))) := by
  have h1 := h.1
  have h2 := h.2.1
  refine ev_in rfl ?_
  refine go_t 0 rfl ?_
  refine go_gI rfl h1.k h1.m rfl ?_
  rw [h2]
  refine go_t 0 rfl ?_
  dsimp only
  rw [nI_1]
  refine go_f (cmd_v1 rfl rfl h1.k rfl) rfl (t7 h hn han hf hc) ?_
  exact go_ret rfl ⟨rfl, rfl⟩
/-- add: the list holds one more -/
theorem t4 {a N cap e x : Nat} (h : LsX L D C R n a N cap e f) (hn : 337 ≤ n) (han : a < n) (hc : cap ≤ 60000) (hx : x < n) (hl : mayLie 103 (kf L D x).1 = true) : Ev (d + 5) 4 [.ref a, .ref x] (mk L D C M R n s)
    (Rt (fun v m' => v = some (.int 1) ∧ ∃ D' C' R' n' s' cap' e', m' = mk L D' C' M R' n' s' ∧ LsX L D' C' R' n' a (N + 1) cap' e' (fu f N x) ∧ ((n' = n ∧ s' = s ∧ cap' = cap ∧ e' = e ∧ N < cap) ∨ (n' = n + 1 ∧ s' = s + cap' ∧ cap' = capN cap ∧ e' = n ∧ N = cap)) ∧ (∀ b, b < n → kf L D' b = kf L D b) ∧ (∀ b, b < n → b ≠ a → C' b = C b) ∧ (∀ k, k ≠ 0 → k ≠ 2 → C' a k = C a k) ∧ (∀ b, b < n → b ≠ a → b ≠ e → R' b = R b))) := by
  obtain ⟨h1, h2, h3, h4, h5, h6, h7, h8⟩ := h
  have h : LsX L D C R n a N cap e f := ⟨h1, h2, h3, h4, h5, h6, h7, h8⟩
  have ha : rf R a 1 = some e := by rw [h1.R]; exact h3
  have hC0 : LsX L D (wr C a 0 (C a 0 + 1)) R n a N cap e f := ⟨h1, by rw [wrk (by decide)]; exact h2, h3, h4, h5, h6, h7, h8⟩
  have hN : N ≤ 60000 := by omega
  have hke : kf L D e = (103, cap) := by
    rcases h7 with ⟨rfl, rfl⟩ | ⟨q1, _⟩
    · rfl
    · exact q1.k
  refine ev_in rfl ?_
  refine go_t 0 rfl ?_
  refine go_gI rfl h1.k h1.m rfl ?_
  refine go_t 0 rfl ?_
  dsimp only
  refine go_pI rfl h1.k h1.c rfl rfl ?_
  refine go_t 0 rfl ?_
  refine go_gR rfl h1.k rfl ha ?_
  refine go_t 0 rfl ?_
  refine go_gI rfl h1.k h1.m rfl ?_
  rw [wrk (by decide), h2]
  have t5 : Ev (d + 4) 5 [.ref a, .ref x, .ref e, .int (nI N)] (mk L D (wr C a 0 (C a 0 + 1)) M R n s) (Rt (fun v m' => v = none ∧ ∃ D' C' R' n' s' cap' e', m' = mk L D' C' M R' n' s' ∧ LsX L D' C' R' n' a (N + 1) cap' e' (fu f N x) ∧ ((n' = n ∧ s' = s ∧ cap' = cap ∧ e' = e ∧ N < cap) ∨ (n' = n + 1 ∧ s' = s + cap' ∧ cap' = capN cap ∧ e' = n ∧ N = cap)) ∧ (∀ b, b < n → kf L D' b = kf L D b) ∧ (∀ b, b < n → b ≠ a → C' b = C b) ∧ (∀ k, k ≠ 0 → k ≠ 2 → C' a k = C a k) ∧ (∀ b, b < n → b ≠ a → b ≠ e → R' b = R b))) := by
    refine ev_in rfl ?_
    refine go_t 0 rfl ?_
    refine go_alen rfl hke rfl ?_
    refine go_br rfl (fun h3' => ?_) (fun h3' => ?_)
    · have hlt : N < cap := by
        refine Decidable.byContradiction fun q => h3' ?_
        rw [show N = cap by omega]
      obtain ⟨q1, q2, q3, q4, q5⟩ := h7.resolve_left (fun q => by omega)
      refine go_t 0 rfl ?_
      refine go_aast (k := N) rfl q1.k q1.c q1.o rfl rfl hlt (by omega) (show kf L D x = ((kf L D x).1, (kf L D x).2) from rfl) hl ?_
      refine go_t 0 rfl ?_
      dsimp only
      rw [nI_1]
      refine go_pI rfl h1.k h1.c rfl rfl ?_
      refine go_ret rfl ⟨rfl, D, _, _, n, s, cap, e, rfl, ⟨h1, wrs .., by rw [wr_ne h8]; exact h3, by omega, fun i hi => ?_, fun i hi => ?_, Or.inr ⟨q1, q2, q3, q4, by omega⟩, h8⟩, Or.inl ⟨rfl, rfl, rfl, rfl, hlt⟩, fun _ _ => rfl, fun b hb hne => by rw [wr_ne hne, wr_ne hne], fun k k0 k2 => by rw [wrk k2, wrk k0], fun b hb h1 h2 => wr_ne h2⟩
      · rw [q1.R]
        by_cases e : i = N
        · subst e; rw [wrs, fu_self]
        · rw [wrk e, fu_ne e, ← Ob.R (R := R) q1]; exact h5 i (by omega)
      · by_cases e : i = N
        · subst e; rw [fu_self]; exact ⟨hx, hl⟩
        · rw [fu_ne e]; exact h6 i (by omega)
    · have h3' := Decidable.not_not.mp h3'
      have hNc : N = cap := (nI_eq (by omega) (by omega)).mp h3'
      have hcap : N + 1 ≤ capN cap ∧ capN cap ≤ 90000 ∧ 10 ≤ capN cap ∧ capN cap ≤ 10 + 2 * (N + 1) := by
        unfold capN
        rcases h7 with ⟨_, q⟩ | ⟨_, _, _, q, _⟩
        · rw [if_pos q]; omega
        · rw [if_neg (by omega)]; omega
      refine go_t 0 rfl ?_
      refine go_f (cmd_v0 rfl rfl h1.k rfl) rfl (t6 (d := d) hC0 hn han hNc hc) ?_
      refine go_t 0 rfl ?_
      have hnew : Ob L (fu D n (103, capN cap)) n 103 (capN cap) := Ob.new hn
      have h1' : Ob L (fu D n (103, capN cap)) a 21 0 := h1.up (by omega)
      have hkx : kf L (fu D n (103, capN cap)) x = kf L D x := kf_up (by omega)
      refine go_aast (k := N) rfl hnew.k hnew.c hnew.o rfl rfl (by omega) (by omega) (show kf L (fu D n (103, capN cap)) x = ((kf L D x).1, (kf L D x).2) from hkx) hl ?_
      refine go_t 0 rfl ?_
      dsimp only
      rw [nI_1]
      refine go_pI rfl h1'.k h1.c rfl rfl ?_
      refine go_ret rfl ⟨rfl, _, _, _, n + 1, _, capN cap, n, rfl, ⟨h1', wrs .., by rw [wr_ne (by omega), wrs], hcap.1, fun i hi => ?_, fun i hi => ?_, Or.inr ⟨hnew, hn, by omega, hcap.2.2.1, hcap.2.1, hcap.2.2.2⟩, by omega⟩, Or.inr ⟨rfl, rfl, rfl, rfl, hNc⟩, fun b hb => kf_up (by omega), fun b hb hne => by rw [wr_ne hne, fu_ne (by omega), wr_ne hne], fun k k0 k2 => by rw [wrk k2, fu_ne (by omega), wrk k0], fun b hb h1 h2 => by rw [wr_ne (by omega), wr_ne h1, fu_ne (by omega)]⟩
      · rw [hnew.R]
        by_cases e : i = N
        · subst e; rw [wrs, fu_self]
        · rw [wrk e, fu_ne e, wr_ne (by omega), fu_self]
          unfold cpyf
          rw [if_pos ⟨Nat.zero_le _, by omega⟩, Nat.zero_add, Nat.sub_zero]
          obtain ⟨q1, _⟩ := h7.resolve_left (fun q => by omega)
          rw [← Ob.R (R := R) q1]
          exact h5 i (by omega)
      · by_cases e : i = N
        · subst e; rw [fu_self, hkx]; exact ⟨by omega, hl⟩
        · have hfi := h6 i (by omega)
          rw [fu_ne e, kf_up (by omega)]
          exact ⟨by omega, hfi.2⟩
  refine go_c (cmd_v3 rfl rfl h1.k rfl) rfl t5 (fun v2 m2 hq2 => ?_)
  obtain ⟨rfl, hq⟩ := hq2
  refine go_t 0 rfl (go_ret rfl ?_)
  exact ⟨rfl, hq⟩
end OC
