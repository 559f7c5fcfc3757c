/-! OPERATION: feed -/
set_option maxRecDepth 100000
/-- a word's byte that is z bits up -/
def byt (v z : Int32) : Int32 := v >>> (z &&& 31) &&& 255
/-- a word put behind the tape, in P -/
def uW (P : Nat → Nat → Int32) (v : Int32) : Nat → Nat → Int32 := wr (wr (wr (wr (wr P 315 (tN P) (byt v 24)) 315 (tN P + 1) (byt v 16)) 315 (tN P + 2) (byt v 8)) 315 (tN P + 3) (byt v 0)) 305 18 (nI (tN P + 4))
section O7
variable {d L n s : Nat} {D : Nat → Nat × Nat} {C M P : Nat → Nat → Int32} {R : Nat → Nat → Option Nat} {m : Mem} {xs : Nat → Int32} {F : Nat → Prop} {f : Nat → Nat}
theorem byt_n (v z : Int32) : ∃ b, b < 256 ∧ byt v z = nI b := pk_andE _ 8 rfl
theorem byt_c (x : Int32) : (x &&& 255).toInt8.toInt32 = x.toInt8.toInt32 := by
  have : (x &&& 255).toInt8 = x.toInt8 := by
    rw [Int32.toInt8_and]
    have e : Int32.toInt8 255 = -1 := rfl
    rw [e]
    exact Int8.and_neg_one
  rw [this]
theorem nar_b (x : Int32) : narK 100 x.toInt8.toInt32 = x.toInt8.toInt32 := by
  show x.toInt8.toInt32.toInt8.toInt32 = x.toInt8.toInt32
  rw [Int8.toInt8_toInt32]
theorem tN_uW (h : tN P + 4 ≤ 400) (v : Int32) : tN (uW P v) = tN P + 4 := by
  show (uW P v 305 18).toNatClampNeg = _
  unfold uW
  rw [wrs]
  exact nI_clamp (by omega)
theorem hp_uW (v : Int32) : HP P (uW P v) := fun a k h => by
  unfold uW
  by_cases e : a = 305
  · subst e
    rw [wrk (fun q => by subst q; cases h), wr_ne (by decide), wr_ne (by decide), wr_ne (by decide), wr_ne (by decide)]
  · have h315 : a ≠ 315 := fun q => by subst q; simp [hp] at h
    rw [wr_ne e, wr_ne h315, wr_ne h315, wr_ne h315, wr_ne h315]
theorem uW_o {a : Nat} (h1 : a ≠ 305) (h2 : a ≠ 315) (v : Int32) : uW P v a = P a := by
  unfold uW
  rw [wr_ne h1, wr_ne h2, wr_ne h2, wr_ne h2, wr_ne h2]
theorem uW_5 {k : Nat} (h : k ≠ 18) (v : Int32) : uW P v 305 k = P 305 k := by
  unfold uW
  rw [wrk h, wr_ne (by decide), wr_ne (by decide), wr_ne (by decide), wr_ne (by decide)]
theorem uW_t {k : Nat} (v : Int32) : uW P v 315 k = if k = tN P + 3 then byt v 0 else if k = tN P + 2 then byt v 8 else if k = tN P + 1 then byt v 16 else if k = tN P then byt v 24 else P 315 k := by
  unfold uW
  rw [wr_ne (by decide)]
  by_cases h3 : k = tN P + 3
  · subst h3; rw [wrs, if_pos rfl]
  rw [wrk h3, if_neg h3]
  by_cases h2 : k = tN P + 2
  · subst h2; rw [wrs, if_pos rfl]
  rw [wrk h2, if_neg h2]
  by_cases h1 : k = tN P + 1
  · subst h1; rw [wrs, if_pos rfl]
  rw [wrk h1, if_neg h1]
  by_cases h0 : k = tN P
  · subst h0; rw [wrs, if_pos rfl]
  rw [wrk h0, if_neg h0]
theorem VP_uW (hV : VP P) (h : tN P + 4 ≤ 400) (v : Int32) : VP (uW P v) := by
  obtain ⟨w1, w2, w3, w4, ⟨t1, t2, t3, t4⟩, ⟨p1, p2⟩, w7, w8⟩ := hV
  refine ⟨VP1_hp (hp_uW v) w1, VP2_hp (hp_uW v) w2, VPs_hp (hp_uW v) w3, ?_, ⟨?_, ?_, fun k hk => ?_, fun k hk => by rw [uW_o (by decide) (by decide)]; exact t4 k hk⟩, ⟨fun b hb => by rw [uW_o (by decide) (by decide)]; exact p1 b hb, fun p b hp hb => by rw [uW_o (by decide) (by decide)]; exact p2 p b hp hb⟩, by rw [uW_5 (by decide)]; exact w7, by rw [uW_5 (by decide)]; exact w8⟩
  · unfold VPw at w4 ⊢
    rw [uW_o (by decide) (by decide), uW_o (by decide) (by decide)]
    exact w4
  · rw [tN_uW h]
    unfold uW
    rw [wrs]
  · rw [tN_uW h]
    exact h
  · rw [uW_t]
    repeat (first | split | exact byt_n _ _ | exact t3 k hk)
theorem mW (hP : pr M = P) (hV : VP P) (h : tN P + 4 ≤ 400) (v : Int32) : Ev d 101 [.ref 305, .int v] (mk L D C M R n s) (Rt (fun w m' => w = none ∧ ∃ M', m' = mk L D C M' R n s ∧ pr M' = uW P v)) := by
  have e0 : M 305 18 = nI (tN P) := (pr_rd hP rfl).trans hV.2.2.2.2.1.1
  refine ev_in rfl ?_
  refine go_t 3 rfl ?_
  refine go_t 0 rfl ?_
  refine go_nx rfl ?_
  refine go_t 0 rfl ?_
  refine go_gR rfl rfl rfl rfl ?_
  refine go_t 0 rfl ?_
  refine go_gM rfl rfl rfl rfl ?_
  rw [e0]
  refine go_t 0 rfl ?_
  dsimp only
  refine go_iastM (k := tN P) rfl rfl rfl rfl (by omega) (by decide) ?_
  refine go_t 0 rfl ?_
  refine go_gM rfl rfl rfl rfl ?_
  rw [wr_ne (by decide), e0]
  refine go_t 0 rfl ?_
  dsimp only
  refine go_pM rfl rfl rfl rfl ?_
  rw [nI_1]
  refine go_t 3 rfl ?_
  refine go_t 0 rfl ?_
  refine go_nx rfl ?_
  refine go_t 0 rfl ?_
  refine go_gR rfl rfl rfl rfl ?_
  refine go_t 0 rfl ?_
  refine go_gM rfl rfl rfl rfl ?_
  rw [wrs]
  refine go_t 0 rfl ?_
  dsimp only
  refine go_iastM (k := tN P + 1) rfl rfl rfl rfl (by omega) (by decide) ?_
  refine go_t 0 rfl ?_
  refine go_gM rfl rfl rfl rfl ?_
  rw [wr_ne (by decide), wrs]
  refine go_t 0 rfl ?_
  dsimp only
  refine go_pM rfl rfl rfl rfl ?_
  rw [nI_1]
  refine go_t 3 rfl ?_
  refine go_t 0 rfl ?_
  refine go_nx rfl ?_
  refine go_t 0 rfl ?_
  refine go_gR rfl rfl rfl rfl ?_
  refine go_t 0 rfl ?_
  refine go_gM rfl rfl rfl rfl ?_
  rw [wrs]
  refine go_t 0 rfl ?_
  dsimp only
  refine go_iastM (k := tN P + 2) rfl rfl rfl rfl (by omega) (by decide) ?_
  refine go_t 0 rfl ?_
  refine go_gM rfl rfl rfl rfl ?_
  rw [wr_ne (by decide), wrs]
  refine go_t 0 rfl ?_
  dsimp only
  refine go_pM rfl rfl rfl rfl ?_
  rw [nI_1]
  refine go_t 3 rfl ?_
  refine go_t 0 rfl ?_
  refine go_nx rfl ?_
  refine go_t 0 rfl ?_
  refine go_gR rfl rfl rfl rfl ?_
  refine go_t 0 rfl ?_
  refine go_gM rfl rfl rfl rfl ?_
  rw [wrs]
  refine go_t 0 rfl ?_
  dsimp only
  refine go_iastM (k := tN P + 3) rfl rfl rfl rfl (by omega) (by decide) ?_
  refine go_t 0 rfl ?_
  refine go_gM rfl rfl rfl rfl ?_
  rw [wr_ne (by decide), wrs]
  refine go_t 0 rfl ?_
  dsimp only
  refine go_pM rfl rfl rfl rfl ?_
  rw [nI_1]
  refine go_t 3 rfl ?_
  refine go_t 0 rfl ?_
  refine go_nx rfl ?_
  refine go_ret rfl ?_
  refine ⟨rfl, _, rfl, ?_⟩
  rw [pr_wrp rfl, pr_wrp rfl, pr_wrp rfl, pr_wrp rfl, pr_wrp rfl, pr_wrp rfl, pr_wrp rfl, pr_wrp rfl, hP]
  unfold uW
  funext a k
  by_cases e : a = 305
  · subst e
    by_cases e2 : k = 18
    · subst e2; rw [wrs, wrs]
    · rw [wrk e2, wrk e2]
      simp only [wr_ne (show (305 : Nat) ≠ 315 by decide), wrk e2]
  · rw [wr_ne e, wr_ne e]
    by_cases e2 : a = 315
    · subst e2
      have w : ∀ (f : Nat → Nat → Int32) (i : Nat) (x y : Int32) (g : Nat), wr (wr f 305 g y) 315 i x 315 = wr f 315 i x 315 := fun f i x y g => by rw [wr_self, wr_self, wr_ne (by decide)]
      rw [w, wr_self, w, wr_self, w, wr_self, wr_self, wr_self, wr_self]
      rw [wr_self]
      rfl
    · simp only [wr_ne e, wr_ne e2]
/-- the ints of DivisionHall's side, a word put behind the tape -/
def cW (C : Nat → Nat → Int32) (t : Nat) (v : Int32) : Nat → Nat → Int32 := wr (wr (wr (wr (wr (wr (wr (wr C 290 t (v >>> (24 &&& 31)).toInt8.toInt32) 281 10 (nI (t + 1))) 290 (t + 1) (v >>> (16 &&& 31)).toInt8.toInt32) 281 10 (nI (t + 2))) 290 (t + 2) (v >>> (8 &&& 31)).toInt8.toInt32) 281 10 (nI (t + 3))) 290 (t + 3) (v >>> (0 &&& 31)).toInt8.toInt32) 281 10 (nI (t + 4))
theorem cW_o {a t : Nat} (h1 : a ≠ 281) (h2 : a ≠ 290) (v : Int32) : cW C t v a = C a := by
  unfold cW
  simp only [wr_ne h1, wr_ne h2]
theorem cW_1 {k t : Nat} (h : k ≠ 10) (v : Int32) : cW C t v 281 k = C 281 k := by
  unfold cW
  simp only [wrk h, wr_ne (show (281 : Nat) ≠ 290 by decide)]
theorem cW_t {k t : Nat} (v : Int32) : cW C t v 290 k = if k = t + 3 then (byt v 0).toInt8.toInt32 else if k = t + 2 then (byt v 8).toInt8.toInt32 else if k = t + 1 then (byt v 16).toInt8.toInt32 else if k = t then (byt v 24).toInt8.toInt32 else C 290 k := by
  unfold cW byt
  rw [byt_c, byt_c, byt_c, byt_c]
  have w : ∀ (f : Nat → Nat → Int32) (y : Int32) (g : Nat), wr f 281 g y 290 = f 290 := fun f y g => wr_ne (by decide)
  rw [w]
  by_cases h3 : k = t + 3
  · subst h3; rw [wrs, if_pos rfl]
  rw [wrk h3, if_neg h3, w]
  by_cases h2 : k = t + 2
  · subst h2; rw [wrs, if_pos rfl]
  rw [wrk h2, if_neg h2, w]
  by_cases h1 : k = t + 1
  · subst h1; rw [wrs, if_pos rfl]
  rw [wrk h1, if_neg h1, w]
  by_cases h0 : k = t
  · subst h0; rw [wrs, if_pos rfl]
  rw [wrk h0, if_neg h0]
theorem CI_uW (h : CI trT xs P F f L D C R n) (ht : tN P + 4 ≤ 400) (v : Int32) : CI trT xs (uW P v) F f L D (cW C (tN P) v) R n := by
  have hV := h.1
  have o := h.2.2.1
  refine h.same (hp_uW v) (VP_uW hV ht v) (fun a k h1 h2 => by rw [cW_o h1 (by omega)]) ⟨cW_1 (by decide) v, cW_1 (by decide) v, cW_1 (by decide) v, cW_1 (by decide) v⟩ (cW_o (by decide) (by decide) v) ?_
  obtain ⟨o1, o2, o3, o4, o5, o6, o7, o8, o9⟩ := o
  refine ⟨fun a ha => by rw [cW_o (by omega) (by omega)]; exact o1 a ha, ?_, ?_, by rw [cW_1 (by decide), uW_5 (by decide)]; exact o4, by rw [cW_1 (by decide), uW_5 (by decide)]; exact o5, fun k hk => ?_, fun m hm => ?_, fun b hb => by rw [cW_o (by decide) (by decide), uW_o (by decide) (by decide)]; exact o8 b hb, fun p b hp hb => by rw [cW_o (by omega) (by omega), uW_o (by decide) (by decide)]; exact o9 p b hp hb⟩
  · rw [cW_1 (by decide)]
    unfold ltS at o2 ⊢
    rw [sN_hp (hp_uW v), uW_o (by decide) (by decide)]
    exact o2
  · unfold cW uW
    rw [wrs, wrs]
  · rw [cW_t, uW_t]
    repeat (first | split | rfl | exact o6 k hk)
  · have hw := (o7 m hm).kp (F' := F) (D' := D) (C' := cW C (tN P) v) (R' := R) (fun a ha => ⟨rfl, cW_o (by have := h.2.1.2.2.2.2.2.2.1 a ha; omega) (by have := h.2.1.2.2.2.2.2.2.1 a ha; omega) v, rfl, rfl⟩) (fun _ h => h) rfl
    unfold WiR at hw ⊢
    rw [uW_o (by decide) (by decide), uW_o (by decide) (by decide)]
    exact hw
theorem t45 (h : CI trT xs P F f L D C R n) (ht : tN P + 4 ≤ 400) (v : Int32) : Ev d 45 [.ref 281, .int v] (mk L D C M R n s) (Rt (fun w m' => w = none ∧ ∃ C', m' = mk L D C' M R n s ∧ CI trT xs (uW P v) F f L D C' R n)) := by
  have e0 : C 281 10 = nI (tN P) := h.2.2.1.2.2.1.trans h.1.2.2.2.2.1.1
  refine ev_in rfl ?_
  refine go_t 3 rfl ?_
  refine go_t 0 rfl ?_
  refine go_nx rfl ?_
  refine go_t 0 rfl ?_
  refine go_gR rfl rfl rfl rfl ?_
  refine go_t 0 rfl ?_
  refine go_gI rfl rfl rfl rfl ?_
  rw [e0]
  refine go_t 0 rfl ?_
  dsimp only
  refine go_bastC (k := tN P) rfl rfl rfl rfl (nar_b _) rfl (by omega) (by decide) ?_
  refine go_t 0 rfl ?_
  refine go_gI rfl rfl rfl rfl ?_
  rw [wr_ne (by decide), e0]
  refine go_t 0 rfl ?_
  dsimp only
  refine go_pI rfl rfl rfl rfl rfl ?_
  rw [nI_1]
  refine go_t 3 rfl ?_
  refine go_t 0 rfl ?_
  refine go_nx rfl ?_
  refine go_t 0 rfl ?_
  refine go_gR rfl rfl rfl rfl ?_
  refine go_t 0 rfl ?_
  refine go_gI rfl rfl rfl rfl ?_
  rw [wrs]
  refine go_t 0 rfl ?_
  dsimp only
  refine go_bastC (k := tN P + 1) rfl rfl rfl rfl (nar_b _) rfl (by omega) (by decide) ?_
  refine go_t 0 rfl ?_
  refine go_gI rfl rfl rfl rfl ?_
  rw [wr_ne (by decide), wrs]
  refine go_t 0 rfl ?_
  dsimp only
  refine go_pI rfl rfl rfl rfl rfl ?_
  rw [nI_1]
  refine go_t 3 rfl ?_
  refine go_t 0 rfl ?_
  refine go_nx rfl ?_
  refine go_t 0 rfl ?_
  refine go_gR rfl rfl rfl rfl ?_
  refine go_t 0 rfl ?_
  refine go_gI rfl rfl rfl rfl ?_
  rw [wrs]
  refine go_t 0 rfl ?_
  dsimp only
  refine go_bastC (k := tN P + 2) rfl rfl rfl rfl (nar_b _) rfl (by omega) (by decide) ?_
  refine go_t 0 rfl ?_
  refine go_gI rfl rfl rfl rfl ?_
  rw [wr_ne (by decide), wrs]
  refine go_t 0 rfl ?_
  dsimp only
  refine go_pI rfl rfl rfl rfl rfl ?_
  rw [nI_1]
  refine go_t 3 rfl ?_
  refine go_t 0 rfl ?_
  refine go_nx rfl ?_
  refine go_t 0 rfl ?_
  refine go_gR rfl rfl rfl rfl ?_
  refine go_t 0 rfl ?_
  refine go_gI rfl rfl rfl rfl ?_
  rw [wrs]
  refine go_t 0 rfl ?_
  dsimp only
  refine go_bastC (k := tN P + 3) rfl rfl rfl rfl (nar_b _) rfl (by omega) (by decide) ?_
  refine go_t 0 rfl ?_
  refine go_gI rfl rfl rfl rfl ?_
  rw [wr_ne (by decide), wrs]
  refine go_t 0 rfl ?_
  dsimp only
  refine go_pI rfl rfl rfl rfl rfl ?_
  rw [nI_1]
  refine go_t 3 rfl ?_
  refine go_t 0 rfl ?_
  refine go_nx rfl ?_
  refine go_ret rfl ?_
  exact ⟨rfl, _, rfl, CI_uW h ht v⟩
/-- the whole of feed -/
def uFeed (P : Nat → Nat → Int32) (a b c d e : Int32) : Nat → Nat → Int32 := if tN P ≤ 380 then uW (uW (uW (uW (uW P a) b) c) d) e else P
def wFeed (P : Nat → Nat → Int32) : Int32 := if tN P ≤ 380 then nI (tN P + 20) else -1
theorem mo5 (hV : VP P) (a b c e g : Int32) : MoOK P (uFeed P a b c e g) 100 [.int a, .int b, .int c, .int e, .int g] (.int (wFeed P)) := by
  intro L D C M R n s hP
  have ht := hV.2.2.2.2.1.2.1
  have e0 : M 305 18 = nI (tN P) := (pr_rd hP rfl).trans hV.2.2.2.2.1.1
  refine ev_in rfl ?_
  by_cases h : tN P ≤ 380
  · have V1 := VP_uW hV (by omega) a
    have T1 := tN_uW (P := P) (by omega) a
    have V2 := VP_uW V1 (by omega) b
    have T2 := tN_uW (P := uW P a) (by omega) b
    have V3 := VP_uW V2 (by omega) c
    have T3 := tN_uW (P := uW (uW P a) b) (by omega) c
    have V4 := VP_uW V3 (by omega) e
    have T4 := tN_uW (P := uW (uW (uW P a) b) c) (by omega) e
    have T5 := tN_uW (P := uW (uW (uW (uW P a) b) c) e) (by omega) g
    have V5 := VP_uW V4 (by omega) g
    refine go_t 0 rfl ?_
    refine go_pM rfl rfl rfl rfl ?_
    refine go_t 0 rfl ?_
    refine go_gM rfl rfl rfl rfl ?_
    rw [wrk (by decide), e0]
    refine go_t 0 rfl ?_
    refine go_bt rfl (by exact (nI_le (a := tN P) (b := 380) h (by decide))) ?_
    refine go_t 0 rfl ?_
    refine go_c rfl rfl (mW (P := P) ((pr_wr rfl).trans hP) hV (by omega) a) (fun v19 m19 hq19 => ?_)
    obtain ⟨rfl, M1, rfl, p1⟩ := hq19
    refine go_t 0 rfl ?_
    refine go_c rfl rfl (mW p1 V1 (by omega) b) (fun v24 m24 hq24 => ?_)
    obtain ⟨rfl, M2, rfl, p2⟩ := hq24
    refine go_t 0 rfl ?_
    refine go_c rfl rfl (mW p2 V2 (by omega) c) (fun v29 m29 hq29 => ?_)
    obtain ⟨rfl, M3, rfl, p3⟩ := hq29
    refine go_t 0 rfl ?_
    refine go_c rfl rfl (mW p3 V3 (by omega) e) (fun v35 m35 hq35 => ?_)
    obtain ⟨rfl, M4, rfl, p4⟩ := hq35
    refine go_t 0 rfl ?_
    refine go_c rfl rfl (mW p4 V4 (by omega) g) (fun v41 m41 hq41 => ?_)
    obtain ⟨rfl, M5, rfl, p5⟩ := hq41
    refine go_t 0 rfl ?_
    refine go_gM rfl rfl rfl rfl ?_
    rw [show M5 305 18 = _ from (pr_rd p5 rfl).trans V5.2.2.2.2.1.1, T5, T4, T3, T2, T1]
    refine go_ret rfl ?_
    exact ⟨by rw [wFeed, if_pos h], M5, rfl, by rw [uFeed, if_pos h]; exact p5⟩
  · skip
    refine go_t 0 rfl ?_
    refine go_pM rfl rfl rfl rfl ?_
    refine go_t 0 rfl ?_
    refine go_gM rfl rfl rfl rfl ?_
    rw [wrk (by decide), e0]
    refine go_t 0 rfl ?_
    refine go_bf rfl (by exact (nI_ge (a := 380) (b := tN P) (by omega) (by omega))) ?_
    refine go_t 0 rfl ?_
    refine go_ret rfl ?_
    exact ⟨by rw [wFeed, if_neg h], _, rfl, by rw [uFeed, if_neg h]; exact (pr_wr rfl).trans hP⟩
theorem co5 (a b c e g : Int32) : CoOK P (uFeed P a b c e g) 44 [.int a, .int b, .int c, .int e, .int g] (.int (wFeed P)) := by
  intro xs F f L D C M R n s h0
  have hV := h0.1
  have ht := hV.2.2.2.2.1.2.1
  have e0 : C 281 10 = nI (tN P) := h0.2.2.1.2.2.1.trans hV.2.2.2.2.1.1
  have ea : nI (tN P) + 20 = nI (tN P + 20) := nI_add (tN P) 20
  refine ev_in rfl ?_
  by_cases h : tN P ≤ 380
  · have T1 := tN_uW (P := P) (by omega) a
    have T2 := tN_uW (P := uW P a) (by omega) b
    have T3 := tN_uW (P := uW (uW P a) b) (by omega) c
    have T4 := tN_uW (P := uW (uW (uW P a) b) c) (by omega) e
    have T5 := tN_uW (P := uW (uW (uW (uW P a) b) c) e) (by omega) g
    refine go_t 0 rfl ?_
    refine go_gI rfl rfl rfl rfl ?_
    rw [e0]
    refine go_t 0 rfl ?_
    dsimp only
    refine go_bt rfl (by rw [ea]; exact nI_le (a := tN P + 20) (b := 400) (by omega) (by decide)) ?_
    refine go_t 0 rfl ?_
    refine go_c rfl rfl (t45 h0 (by omega) a) (fun v17 m17 hq17 => ?_)
    obtain ⟨rfl, C1, rfl, p1⟩ := hq17
    refine go_t 0 rfl ?_
    refine go_c rfl rfl (t45 p1 (by omega) b) (fun v22 m22 hq22 => ?_)
    obtain ⟨rfl, C2, rfl, p2⟩ := hq22
    refine go_t 0 rfl ?_
    refine go_c rfl rfl (t45 p2 (by omega) c) (fun v27 m27 hq27 => ?_)
    obtain ⟨rfl, C3, rfl, p3⟩ := hq27
    refine go_t 0 rfl ?_
    refine go_c rfl rfl (t45 p3 (by omega) e) (fun v33 m33 hq33 => ?_)
    obtain ⟨rfl, C4, rfl, p4⟩ := hq33
    refine go_t 0 rfl ?_
    refine go_c rfl rfl (t45 p4 (by omega) g) (fun v39 m39 hq39 => ?_)
    obtain ⟨rfl, C5, rfl, p5⟩ := hq39
    refine go_t 0 rfl ?_
    refine go_gI rfl rfl rfl rfl ?_
    rw [show C5 281 10 = _ from p5.2.2.1.2.2.1.trans p5.1.2.2.2.2.1.1, T5, T4, T3, T2, T1]
    refine go_ret rfl ?_
    exact ⟨by rw [wFeed, if_pos h], F, f, D, C5, R, n, s, rfl, by rw [uFeed, if_pos h]; exact p5, by omega, by omega⟩
  · skip
    refine go_t 0 rfl ?_
    refine go_gI rfl rfl rfl rfl ?_
    rw [e0]
    refine go_t 0 rfl ?_
    dsimp only
    refine go_bf rfl (by rw [ea]; exact nI_ge (a := 400) (b := tN P + 20) (by omega) (by omega)) ?_
    refine go_t 0 rfl ?_
    refine go_ret rfl ?_
    exact ⟨by rw [wFeed, if_neg h], F, f, D, C, R, n, s, rfl, by rw [uFeed, if_neg h]; exact h0, by omega, by omega⟩
end O7
