/-! THE MEMORY AS THE TWO SIDES HAVE IT: C the ints of DivisionHall's side, M the Model's; rules, one an instruction -/
set_option maxRecDepth 100000
def mdl (r : Nat) : Bool := Nat.ble 305 r && Nat.ble r 336
def cw (r : Nat) : Bool := Nat.ble 281 r && !(mdl r)
def j2 (C M : Nat → Nat → Int32) (a : Nat) : Nat → Int32 := bif mdl a then M a else C a
section J2
variable {C M : Nat → Nat → Int32} {r k : Nat} {v : Int32}
theorem j2_c (h : mdl r = false) : j2 C M r = C r := by rw [j2, h]; rfl
theorem j2_m (h : mdl r = true) : j2 C M r = M r := by rw [j2, h]; rfl
theorem cw_m (h : cw r = true) : mdl r = false := by
  rw [cw, Bool.and_eq_true] at h
  simpa using h.2
theorem cw_l (h : cw r = true) : Nat.ble 281 r = true := by
  rw [cw, Bool.and_eq_true] at h
  exact h.1
theorem mdl_l (h : mdl r = true) : Nat.ble 281 r = true := by
  rw [mdl, Bool.and_eq_true] at h
  have := Nat.le_of_ble_eq_true h.1
  exact nblt (by omega)
theorem mdl_hi (h : 337 ≤ r) : mdl r = false := by rw [mdl, nbl (show 336 < r by omega), Bool.and_false]
theorem cw_hi (h : 337 ≤ r) : cw r = true := by rw [cw, mdl_hi h, nblt (show 281 ≤ r by omega)]; rfl
theorem j2_wc (h : mdl r = false) : wr (j2 C M) r k v = j2 (wr C r k v) M := by
  funext b
  by_cases e : b = r
  · subst e; rw [wr_self, j2_c h, j2_c h, wr_self]
  · rw [wr_ne e]
    unfold j2
    rw [wr_ne e]
theorem j2_wm (h : mdl r = true) : wr (j2 C M) r k v = j2 C (wr M r k v) := by
  funext b
  by_cases e : b = r
  · subst e; rw [wr_self, j2_m h, j2_m h, wr_self]
  · rw [wr_ne e]
    unfold j2
    rw [wr_ne e]
theorem j2_nc {z : Nat → Int32} (h : mdl r = false) : fu (j2 C M) r z = j2 (fu C r z) M := by
  funext b
  by_cases e : b = r
  · subst e; rw [fu_self, j2_c h, fu_self]
  · rw [fu_ne e]
    unfold j2
    rw [fu_ne e]
theorem j2_same : j2 C C = C := by
  funext a
  unfold j2
  cases mdl a <;> rfl
end J2
/-- the memory: kinds D, ints C and M, references R of what is free, next cell n, slots s -/
def mk (L : Nat) (D : Nat → Nat × Nat) (C M : Nat → Nat → Int32) (R : Nat → Nat → Option Nat) (n s : Nat) : Mem := (kf L D, j2 C M, rf R, n, s)
/-- a dynamic cell: its kind -/
def AtD (D : Nat → Nat × Nat) (r t len : Nat) : Prop := 337 ≤ r ∧ D r = (t, len)
theorem AtD.k {D : Nat → Nat × Nat} {r t len L : Nat} (h : AtD D r t len) : kf L D r = (t, len) := by rw [kf_hi h.1, h.2]
theorem AtD.m {D : Nat → Nat × Nat} {r t len : Nat} (h : AtD D r t len) : mdl r = false := mdl_hi h.1
theorem AtD.c {D : Nat → Nat × Nat} {r t len : Nat} (h : AtD D r t len) : cw r = true := cw_hi h.1
theorem AtD.o {D : Nat → Nat × Nat} {r t len : Nat} (h : AtD D r t len) : opn r = true := opn_hi h.1
theorem AtD.new {D : Nat → Nat × Nat} {n t len : Nat} (h : 337 ≤ n) : AtD (fu D n (t, len)) n t len := ⟨h, fu_self ..⟩
theorem AtD.up {D : Nat → Nat × Nat} {r t len n : Nat} {x : Nat × Nat} (h : AtD D r t len) (hr : r ≠ n) : AtD (fu D n x) r t len := ⟨h.1, by rw [fu_ne hr]; exact h.2⟩
def strT (ins : ClassFile.Instr) (a b : Nat) : Bool := match ins with
  | .getfield _ => false
  | .putfield _ => false
  | .arraylength => false
  | .invokespecial _ => false
  | _ => straight ins a b
noncomputable def rnT (y t : Nat) : Nat → Nat → Lcs → List Value → Mem → Option (Fr × Mem)
  | 0, p, L, S, m => some ((p, L, S), m)
  | n + 1, pc, L, S, m => match code_of y pc with
    | none => none
    | some (ins, p, a, b, c) => bif strT ins a b then (match cmdI ins p a b c pc L S m with
      | some (.inl ((p', L', S'), m')) => bif Nat.beq p' t || Nat.ble p' pc then some ((p', L', S'), m') else rnT y t n p' L' S' m'
      | _ => none) else some ((pc, L, S), m)
section GT
variable {d y pc p t L n s a b r len : Nat} {cc : Int32} {Lc Lc' : Lcs} {S S' : List Value} {m m' : Mem} {D : Nat → Nat × Nat} {C M : Nat → Nat → Int32} {R : Nat → Nat → Option Nat} {Q : Res → Prop} {ins : ClassFile.Instr}
theorem go_tN {n : Nat} (h : rnT y t n pc Lc S m = some ((p, Lc', S'), m')) (k : Go d y p Lc' S' m' Q) : Go d y pc Lc S m Q := by
  induction n generalizing pc Lc S m with
  | zero => rw [rnT] at h; cases h; exact k
  | succ n ih =>
    rw [rnT] at h
    cases hc : code_of y pc with
    | none => rw [hc] at h; cases h
    | some e =>
      obtain ⟨ins, p1, a, b, c⟩ := e
      rw [hc] at h
      dsimp only at h
      cases hs : strT ins a b with
      | false => rw [hs] at h; cases h; exact k
      | true =>
        rw [hs] at h
        dsimp only [cond] at h
        cases hi : cmdI ins p1 a b c pc Lc S m with
        | none => rw [hi] at h; cases h
        | some q =>
          rw [hi] at h
          match q, h with
          | .inl ((p', L1, S1), m1), h =>
            have hcmd : cmd y pc Lc S m = some (.inl ((p', L1, S1), m1)) := by rw [cmd, hc]; exact hi
            dsimp only at h
            cases hb : (Nat.beq p' t || Nat.ble p' pc) with
            | true => rw [hb] at h; cases h; exact go_nx hcmd k
            | false => rw [hb] at h; exact go_nx hcmd (ih h)
          | .inr _, h => cases h
theorem go_t (t : Nat) (h : rnT y t 60 pc Lc S m = some ((p, Lc', S'), m')) (k : Go d y p Lc' S' m' Q) : Go d y pc Lc S m Q := go_tN h k
theorem chk_t {c : Prop} [Decidable c] {x : Option Cmd} (h : c) : chk c x = x := if_pos h
/-- an int field of DivisionHall's side -/
theorem go_gI {kd ln idx : Nat} (h : code_of y pc = some (.getfield idx, p, a, b, cc)) (hk : kf L D r = (kd, ln)) (hm : mdl r = false) (h3 : (Nat.beq (grp kd) b && !(cc == 1)) = true) (k : Go d y p Lc (.int (C r a) :: S) (mk L D C M R n s) Q) : Go d y pc Lc (.ref r :: S) (mk L D C M R n s) Q := by
  refine go_nx (p := p) (L' := Lc) (S' := .int (C r a) :: S) (m' := mk L D C M R n s) ?_ k
  rw [cmd, h]
  simp only [Bool.and_eq_true, Bool.not_eq_true'] at h3
  show fldG a b (cc == 1) p Lc (.ref r :: S) (kf L D, j2 C M, rf R, n, s) = _
  unfold fldG
  dsimp only
  rw [hk, j2_c hm]
  dsimp only
  rw [h3.1, h3.2]
  rfl
theorem go_gM {kd ln idx : Nat} (h : code_of y pc = some (.getfield idx, p, a, b, cc)) (hk : kf L D r = (kd, ln)) (hm : mdl r = true) (h3 : (Nat.beq (grp kd) b && !(cc == 1)) = true) (k : Go d y p Lc (.int (M r a) :: S) (mk L D C M R n s) Q) : Go d y pc Lc (.ref r :: S) (mk L D C M R n s) Q := by
  refine go_nx (p := p) (L' := Lc) (S' := .int (M r a) :: S) (m' := mk L D C M R n s) ?_ k
  rw [cmd, h]
  simp only [Bool.and_eq_true, Bool.not_eq_true'] at h3
  show fldG a b (cc == 1) p Lc (.ref r :: S) (kf L D, j2 C M, rf R, n, s) = _
  unfold fldG
  dsimp only
  rw [hk, j2_m hm]
  dsimp only
  rw [h3.1, h3.2]
  rfl
/-- a field that is a reference -/
theorem go_gR {kd ln idx : Nat} {v : Option Nat} (h : code_of y pc = some (.getfield idx, p, a, b, cc)) (hk : kf L D r = (kd, ln)) (h3 : (Nat.beq (grp kd) b && (cc == 1)) = true) (hv : rf R r a = v) (k : Go d y p Lc (rvl v :: S) (mk L D C M R n s) Q) : Go d y pc Lc (.ref r :: S) (mk L D C M R n s) Q := by
  subst hv
  refine go_nx (p := p) (L' := Lc) (S' := rvl (rf R r a) :: S) (m' := mk L D C M R n s) ?_ k
  rw [cmd, h]
  simp only [Bool.and_eq_true] at h3
  show fldG a b (cc == 1) p Lc (.ref r :: S) (kf L D, j2 C M, rf R, n, s) = _
  unfold fldG
  dsimp only
  rw [hk]
  dsimp only
  rw [h3.1, h3.2]
  rfl
theorem go_pI {kd ln idx : Nat} {x : Int32} (h : code_of y pc = some (.putfield idx, p, a, b, cc)) (hk : kf L D r = (kd, ln)) (hc : cw r = true) (h3 : (Nat.beq (grp kd) b && !(cc == 1)) = true) (h4 : fitF b a x = true) (k : Go d y p Lc S (mk L D (wr C r a x) M R n s) Q) : Go d y pc Lc (.int x :: .ref r :: S) (mk L D C M R n s) Q := by
  refine go_nx (p := p) (L' := Lc) (S' := S) (m' := mk L D (wr C r a x) M R n s) ?_ k
  rw [cmd, h]
  simp only [Bool.and_eq_true, Bool.not_eq_true'] at h3
  show fldP a b (cc == 1) p Lc (.int x :: .ref r :: S) (kf L D, j2 C M, rf R, n, s) = _
  unfold fldP
  dsimp only
  rw [hk]
  dsimp only
  rw [h3.1, h3.2, cw_l hc, h4, j2_wc (cw_m hc)]
  rfl
theorem go_pM {kd ln idx : Nat} {x : Int32} (h : code_of y pc = some (.putfield idx, p, a, b, cc)) (hk : kf L D r = (kd, ln)) (hm : mdl r = true) (h3 : (Nat.beq (grp kd) b && !(cc == 1) && fitF b a x) = true) (k : Go d y p Lc S (mk L D C (wr M r a x) R n s) Q) : Go d y pc Lc (.int x :: .ref r :: S) (mk L D C M R n s) Q := by
  refine go_nx (p := p) (L' := Lc) (S' := S) (m' := mk L D C (wr M r a x) R n s) ?_ k
  rw [cmd, h]
  simp only [Bool.and_eq_true, Bool.not_eq_true'] at h3
  show fldP a b (cc == 1) p Lc (.int x :: .ref r :: S) (kf L D, j2 C M, rf R, n, s) = _
  unfold fldP
  dsimp only
  rw [hk]
  dsimp only
  rw [h3.1.1, h3.1.2, h3.2, mdl_l hm, j2_wm hm]
  rfl
theorem go_pR {kd ln idx q : Nat} (h : code_of y pc = some (.putfield idx, p, a, b, cc)) (hk : kf L D r = (kd, ln)) (hc : cw r = true) (ho : opn r = true) (h3 : (Nat.beq (grp kd) b && (cc == 1)) = true) (k : Go d y p Lc S (mk L D C M (wr R r a (some q)) n s) Q) : Go d y pc Lc (.ref q :: .ref r :: S) (mk L D C M R n s) Q := by
  refine go_nx (p := p) (L' := Lc) (S' := S) (m' := mk L D C M (wr R r a (some q)) n s) ?_ k
  rw [cmd, h]
  simp only [Bool.and_eq_true] at h3
  show fldP a b (cc == 1) p Lc (.ref q :: .ref r :: S) (kf L D, j2 C M, rf R, n, s) = _
  unfold fldP
  dsimp only
  rw [hk]
  dsimp only
  rw [h3.1, h3.2, cw_l hc, rf_wr ho]
  rfl
theorem go_pN {kd ln idx : Nat} (h : code_of y pc = some (.putfield idx, p, a, b, cc)) (hk : kf L D r = (kd, ln)) (hc : cw r = true) (ho : opn r = true) (h3 : (Nat.beq (grp kd) b && (cc == 1)) = true) (k : Go d y p Lc S (mk L D C M (wr R r a none) n s) Q) : Go d y pc Lc (.null :: .ref r :: S) (mk L D C M R n s) Q := by
  refine go_nx (p := p) (L' := Lc) (S' := S) (m' := mk L D C M (wr R r a none) n s) ?_ k
  rw [cmd, h]
  simp only [Bool.and_eq_true] at h3
  show fldP a b (cc == 1) p Lc (.null :: .ref r :: S) (kf L D, j2 C M, rf R, n, s) = _
  unfold fldP
  dsimp only
  rw [hk]
  dsimp only
  rw [h3.1, h3.2, cw_l hc, rf_wr ho]
  rfl
theorem go_new {idx : Nat} (h : code_of y pc = some (.new idx, p, a, b, cc)) (h1 : 337 ≤ n) (k : Go d y p Lc (.ref n :: S) (mk L (fu D n (a, 0)) (fu C n fun _ => 0) M (fu R n fun _ => none) (n + 1) (s + b)) Q) : Go d y pc Lc S (mk L D C M R n s) Q := by
  refine go_nx (p := p) (L' := Lc) (S' := .ref n :: S) (m' := mk L (fu D n (a, 0)) (fu C n fun _ => 0) M (fu R n fun _ => none) (n + 1) (s + b)) ?_ k
  rw [cmd, h]
  show nx p Lc (.ref n :: S) (fu (kf L D) n (a, 0), fu (j2 C M) n (fun _ => 0), fu (rf R) n (fun _ => none), n + 1, s + b) = _
  rw [kf_new h1, j2_nc (mdl_hi h1), rf_new (opn_hi h1)]
  rfl
def isNewA (ins : ClassFile.Instr) : Bool := match ins with
  | .newarray _ => true
  | .anewarray _ => true
  | _ => false
theorem ix_ok {j : Int32} {k len : Nat} (e : j = nI k) (h : k < len) (hl : len ≤ 100000) : ¬ (j < 0 ∨ len ≤ j.toNatClampNeg) ∧ j.toNatClampNeg = k := by
  subst e
  exact ⟨nI_ix h hl, nI_nt (by omega)⟩
theorem go_newA {x : Int32} {k : Nat} (h : code_of y pc = some (ins, p, a, b, cc)) (hi : isNewA ins = true) (h1 : 337 ≤ n) (e : x = nI k) (hk : k ≤ 100000)
    (kk : Go d y p Lc (.ref n :: S) (mk L (fu D n (a, k)) (fu C n fun _ => 0) M (fu R n fun _ => none) (n + 1) (s + k)) Q) : Go d y pc Lc (.int x :: S) (mk L D C M R n s) Q := by
  subst e
  refine go_nx (p := p) (L' := Lc) (S' := .ref n :: S) (m' := mk L (fu D n (a, k)) (fu C n fun _ => 0) M (fu R n fun _ => none) (n + 1) (s + k)) ?_ kk
  rw [cmd, h]
  have e2 : (nI k).toNatClampNeg = k := nI_nt (by omega)
  have f : newA a p Lc (.int (nI k) :: S) (kf L D, j2 C M, rf R, n, s) = some (.inl ((p, Lc, .ref n :: S), mk L (fu D n (a, k)) (fu C n fun _ => 0) M (fu R n fun _ => none) (n + 1) (s + k))) := by
    unfold newA
    dsimp only
    rw [chk_t ⟨nI_pos (by omega), by rw [e2]; exact hk⟩, e2]
    show nx p Lc (.ref n :: S) (fu (kf L D) n (a, k), fu (j2 C M) n (fun _ => 0), fu (rf R) n (fun _ => none), n + 1, s + k) = _
    rw [kf_new h1, j2_nc (mdl_hi h1), rf_new (opn_hi h1)]
    rfl
  cases ins <;> first | exact f | (exact absurd hi (by decide)) | (exact absurd hi Bool.false_ne_true)
def ldT (ins : ClassFile.Instr) (t : Nat) : Bool := match ins with
  | .iaload => Nat.beq t 101
  | .baload => Nat.beq t 100 || Nat.beq t 102
  | _ => false
def stT (ins : ClassFile.Instr) (t : Nat) : Bool := match ins with
  | .iastore => Nat.beq t 101
  | .bastore => Nat.beq t 100 || Nat.beq t 102
  | _ => false
theorem beq_or_self (t c : Nat) (h : Nat.beq t c = true) : (Nat.beq t c || Nat.beq t c) = true := by rw [h]; rfl
theorem ald_eq {t1 t2 t k : Nat} {j : Int32} {I : Nat → Nat → Int32} {K : Nat → Nat × Nat} {R' : Nat → Nat → Option Nat} (hk : K r = (t, len)) (ht : (Nat.beq t t1 || Nat.beq t t2) = true) (e : j = nI k) (hlt : k < len) (hl : len ≤ 100000) :
    ald t1 t2 p Lc (.int j :: .ref r :: S) (K, I, R', n, s) = some (.inl ((p, Lc, .int (I r k) :: S), (K, I, R', n, s))) := by
  obtain ⟨e1, e2⟩ := ix_ok e hlt hl
  unfold ald
  dsimp only
  rw [hk]
  dsimp only
  rw [ht, chk_t e1, e2]
  rfl
theorem ast_eq {t1 t2 t k : Nat} {j x : Int32} {I : Nat → Nat → Int32} {K : Nat → Nat × Nat} {R' : Nat → Nat → Option Nat} (hk : K r = (t, len)) (ht : (Nat.beq t t1 || Nat.beq t t2) = true) (hc : Nat.ble 281 r = true) (e : j = nI k) (hlt : k < len) (hl : len ≤ 100000) :
    ast t1 t2 p Lc (.int x :: .int j :: .ref r :: S) (K, I, R', n, s) = some (.inl ((p, Lc, S), (K, wr I r k (narK t x), R', n, s))) := by
  obtain ⟨e1, e2⟩ := ix_ok e hlt hl
  unfold ast
  dsimp only
  rw [hk]
  dsimp only
  rw [ht, hc, chk_t e1, e2]
  rfl
theorem go_ald0 {t k : Nat} {j : Int32} {I : Nat → Nat → Int32} {K : Nat → Nat × Nat} {R' : Nat → Nat → Option Nat} (h : code_of y pc = some (ins, p, a, b, cc)) (hk : K r = (t, len)) (ht : ldT ins t = true) (e : j = nI k) (hlt : k < len) (hl : len ≤ 100000) :
    cmd y pc Lc (.int j :: .ref r :: S) (K, I, R', n, s) = some (.inl ((p, Lc, .int (I r k) :: S), (K, I, R', n, s))) := by
  rw [cmd, h]
  cases ins with
  | iaload => exact ald_eq (t1 := 101) (t2 := 101) hk (beq_or_self _ _ ht) e hlt hl
  | baload => exact ald_eq (t1 := 100) (t2 := 102) hk ht e hlt hl
  | _ => exact absurd ht Bool.false_ne_true
theorem go_ast0 {t k : Nat} {j x : Int32} {I : Nat → Nat → Int32} {K : Nat → Nat × Nat} {R' : Nat → Nat → Option Nat} (h : code_of y pc = some (ins, p, a, b, cc)) (hk : K r = (t, len)) (ht : stT ins t = true) (hc : Nat.ble 281 r = true) (e : j = nI k) (hlt : k < len) (hl : len ≤ 100000) :
    cmd y pc Lc (.int x :: .int j :: .ref r :: S) (K, I, R', n, s) = some (.inl ((p, Lc, S), (K, wr I r k (narK t x), R', n, s))) := by
  rw [cmd, h]
  cases ins with
  | iastore => exact ast_eq (t1 := 101) (t2 := 101) hk (beq_or_self _ _ ht) hc e hlt hl
  | bastore => exact ast_eq (t1 := 100) (t2 := 102) hk ht hc e hlt hl
  | _ => exact absurd ht Bool.false_ne_true
theorem go_aldC {t k : Nat} {j : Int32} (h : code_of y pc = some (ins, p, a, b, cc)) (hk : kf L D r = (t, len)) (hm : mdl r = false) (ht : ldT ins t = true) (e : j = nI k) (hlt : k < len) (hl : len ≤ 100000) (kk : Go d y p Lc (.int (C r k) :: S) (mk L D C M R n s) Q) : Go d y pc Lc (.int j :: .ref r :: S) (mk L D C M R n s) Q := by
  refine go_nx (go_ald0 h hk ht e hlt hl) ?_
  rw [j2_c hm]
  exact kk
theorem go_aldM {t k : Nat} {j : Int32} (h : code_of y pc = some (ins, p, a, b, cc)) (hk : kf L D r = (t, len)) (hm : mdl r = true) (ht : ldT ins t = true) (e : j = nI k) (hlt : k < len) (hl : len ≤ 100000) (kk : Go d y p Lc (.int (M r k) :: S) (mk L D C M R n s) Q) : Go d y pc Lc (.int j :: .ref r :: S) (mk L D C M R n s) Q := by
  refine go_nx (go_ald0 h hk ht e hlt hl) ?_
  rw [j2_m hm]
  exact kk
theorem go_astC {t k : Nat} {j x : Int32} (h : code_of y pc = some (ins, p, a, b, cc)) (hk : kf L D r = (t, len)) (hc : cw r = true) (ht : stT ins t = true) (e : j = nI k) (hlt : k < len) (hl : len ≤ 100000) (kk : Go d y p Lc S (mk L D (wr C r k (narK t x)) M R n s) Q) : Go d y pc Lc (.int x :: .int j :: .ref r :: S) (mk L D C M R n s) Q := by
  refine go_nx (go_ast0 h hk ht (cw_l hc) e hlt hl) ?_
  rw [j2_wc (cw_m hc)]
  exact kk
theorem go_astM {t k : Nat} {j x : Int32} (h : code_of y pc = some (ins, p, a, b, cc)) (hk : kf L D r = (t, len)) (hm : mdl r = true) (ht : stT ins t = true) (e : j = nI k) (hlt : k < len) (hl : len ≤ 100000) (kk : Go d y p Lc S (mk L D C (wr M r k (narK t x)) R n s) Q) : Go d y pc Lc (.int x :: .int j :: .ref r :: S) (mk L D C M R n s) Q := by
  refine go_nx (go_ast0 h hk ht (mdl_l hm) e hlt hl) ?_
  rw [j2_wm hm]
  exact kk
theorem go_iastC {k : Nat} {j x : Int32} (h : code_of y pc = some (.iastore, p, a, b, cc)) (hk : kf L D r = (101, len)) (hc : cw r = true) (e : j = nI k) (hlt : k < len) (hl : len ≤ 100000) (kk : Go d y p Lc S (mk L D (wr C r k x) M R n s) Q) : Go d y pc Lc (.int x :: .int j :: .ref r :: S) (mk L D C M R n s) Q := go_astC h hk hc rfl e hlt hl kk
theorem go_iastM {k : Nat} {j x : Int32} (h : code_of y pc = some (.iastore, p, a, b, cc)) (hk : kf L D r = (101, len)) (hm : mdl r = true) (e : j = nI k) (hlt : k < len) (hl : len ≤ 100000) (kk : Go d y p Lc S (mk L D C (wr M r k x) R n s) Q) : Go d y pc Lc (.int x :: .int j :: .ref r :: S) (mk L D C M R n s) Q := go_astM h hk hm rfl e hlt hl kk
theorem go_bastC {t k : Nat} {j x v : Int32} (h : code_of y pc = some (.bastore, p, a, b, cc)) (hk : kf L D r = (t, len)) (hc : cw r = true) (ht : stT .bastore t = true) (hx : narK t x = v) (e : j = nI k) (hlt : k < len) (hl : len ≤ 100000) (kk : Go d y p Lc S (mk L D (wr C r k v) M R n s) Q) : Go d y pc Lc (.int x :: .int j :: .ref r :: S) (mk L D C M R n s) Q := go_astC h hk hc ht e hlt hl (by rw [hx]; exact kk)
theorem go_bastM {t k : Nat} {j x v : Int32} (h : code_of y pc = some (.bastore, p, a, b, cc)) (hk : kf L D r = (t, len)) (hm : mdl r = true) (ht : stT .bastore t = true) (hx : narK t x = v) (e : j = nI k) (hlt : k < len) (hl : len ≤ 100000) (kk : Go d y p Lc S (mk L D C (wr M r k v) R n s) Q) : Go d y pc Lc (.int x :: .int j :: .ref r :: S) (mk L D C M R n s) Q := go_astM h hk hm ht e hlt hl (by rw [hx]; exact kk)
theorem go_aald {t k : Nat} {j : Int32} {v : Option Nat} (h : code_of y pc = some (.aaload, p, a, b, cc)) (hk : kf L D r = (t, len)) (ht : refArr t = true) (e : j = nI k) (hlt : k < len) (hl : len ≤ 100000) (hv : rf R r k = v) (kk : Go d y p Lc (rvl v :: S) (mk L D C M R n s) Q) : Go d y pc Lc (.int j :: .ref r :: S) (mk L D C M R n s) Q := by
  subst hv
  obtain ⟨e1, e2⟩ := ix_ok e hlt hl
  refine go_nx (p := p) (L' := Lc) (S' := rvl (rf R r k) :: S) (m' := mk L D C M R n s) ?_ kk
  rw [cmd, h]
  show aldR p Lc (.int j :: .ref r :: S) (kf L D, j2 C M, rf R, n, s) = _
  unfold aldR
  dsimp only
  rw [hk]
  dsimp only
  rw [ht, chk_t e1, e2]
  rfl
theorem go_aast {t k q kd ln : Nat} {j : Int32} (h : code_of y pc = some (.aastore, p, a, b, cc)) (hk : kf L D r = (t, len)) (hc : cw r = true) (ho : opn r = true) (ht : (Nat.ble 103 t && Nat.ble t 106) = true) (e : j = nI k) (hlt : k < len) (hl : len ≤ 100000) (hq : kf L D q = (kd, ln)) (hy : mayLie t kd = true)
    (kk : Go d y p Lc S (mk L D C M (wr R r k (some q)) n s) Q) : Go d y pc Lc (.ref q :: .int j :: .ref r :: S) (mk L D C M R n s) Q := by
  obtain ⟨e1, e2⟩ := ix_ok e hlt hl
  refine go_nx (p := p) (L' := Lc) (S' := S) (m' := mk L D C M (wr R r k (some q)) n s) ?_ kk
  rw [cmd, h]
  show astR p Lc (.ref q :: .int j :: .ref r :: S) (kf L D, j2 C M, rf R, n, s) = _
  unfold astR
  dsimp only
  rw [hk, hq, rf_wr ho]
  dsimp only
  rw [ht, hy, cw_l hc, chk_t e1, e2]
  rfl
theorem go_aastN {t k : Nat} {j : Int32} (h : code_of y pc = some (.aastore, p, a, b, cc)) (hk : kf L D r = (t, len)) (hc : cw r = true) (ho : opn r = true) (ht : (Nat.ble 103 t && Nat.ble t 106) = true) (e : j = nI k) (hlt : k < len) (hl : len ≤ 100000)
    (kk : Go d y p Lc S (mk L D C M (wr R r k none) n s) Q) : Go d y pc Lc (.null :: .int j :: .ref r :: S) (mk L D C M R n s) Q := by
  obtain ⟨e1, e2⟩ := ix_ok e hlt hl
  refine go_nx (p := p) (L' := Lc) (S' := S) (m' := mk L D C M (wr R r k none) n s) ?_ kk
  rw [cmd, h]
  show astR p Lc (.null :: .int j :: .ref r :: S) (kf L D, j2 C M, rf R, n, s) = _
  unfold astR
  dsimp only
  rw [hk]
  dsimp only
  rw [ht, cw_l hc, chk_t e1, e2, rf_wr ho]
  rfl
theorem go_alen {t : Nat} (h : code_of y pc = some (.arraylength, p, a, b, cc)) (hk : kf L D r = (t, len)) (ht : (Nat.ble 100 t && Nat.ble t 109) = true) (kk : Go d y p Lc (.int (nI len) :: S) (mk L D C M R n s) Q) : Go d y pc Lc (.ref r :: S) (mk L D C M R n s) Q := by
  refine go_nx (p := p) (L' := Lc) (S' := .int (nI len) :: S) (m' := mk L D C M R n s) ?_ kk
  rw [cmd, h]
  show alen p Lc (.ref r :: S) (kf L D, j2 C M, rf R, n, s) = _
  unfold alen
  dsimp only
  rw [hk]
  dsimp only
  rw [ht]
  rfl
theorem go_cast {idx kd ln : Nat} (h : code_of y pc = some (.checkcast idx, p, a, b, cc)) (hk : kf L D r = (kd, ln)) (hc : mayCast a kd = true) (kk : Go d y p Lc (.ref r :: S) (mk L D C M R n s) Q) : Go d y pc Lc (.ref r :: S) (mk L D C M R n s) Q := by
  refine go_nx (p := p) (L' := Lc) (S' := .ref r :: S) (m' := mk L D C M R n s) ?_ kk
  rw [cmd, h]
  show (bif mayCast a (kf L D r).1 then nx p Lc (.ref r :: S) (kf L D, j2 C M, rf R, n, s) else none) = _
  rw [hk, hc]
  rfl
theorem go_ifnul {idx : Int} {kd ln : Nat} (h : code_of y pc = some (.ifnull idx, p, a, b, cc)) (hk : kf L D r = (kd, ln)) (hc : kOK kd = true) (kk : Go d y p Lc S (mk L D C M R n s) Q) : Go d y pc Lc (.ref r :: S) (mk L D C M R n s) Q := by
  refine go_nx (p := p) (L' := Lc) (S' := S) (m' := mk L D C M R n s) ?_ kk
  rw [cmd, h]
  show (bif kOK (kf L D r).1 then nx p Lc S (kf L D, j2 C M, rf R, n, s) else none) = _
  rw [hk, hc]
  rfl
theorem go_ifnon {idx : Int} {kd ln : Nat} (h : code_of y pc = some (.ifnonnull idx, p, a, b, cc)) (hk : kf L D r = (kd, ln)) (hc : kOK kd = true) (kk : Go d y a Lc S (mk L D C M R n s) Q) : Go d y pc Lc (.ref r :: S) (mk L D C M R n s) Q := by
  refine go_nx (p := a) (L' := Lc) (S' := S) (m' := mk L D C M R n s) ?_ kk
  rw [cmd, h]
  show (bif kOK (kf L D r).1 then nx a Lc S (kf L D, j2 C M, rf R, n, s) else none) = _
  rw [hk, hc]
  rfl
theorem go_nul1 {idx : Int} (h : code_of y pc = some (.ifnull idx, p, a, b, cc)) (kk : Go d y a Lc S m Q) : Go d y pc Lc (.null :: S) m Q := by
  refine go_nx (p := a) (L' := Lc) (S' := S) (m' := m) ?_ kk
  rw [cmd, h]
  rfl
theorem go_nul2 {idx : Int} (h : code_of y pc = some (.ifnonnull idx, p, a, b, cc)) (kk : Go d y p Lc S m Q) : Go d y pc Lc (.null :: S) m Q := by
  refine go_nx (p := p) (L' := Lc) (S' := S) (m' := m) ?_ kk
  rw [cmd, h]
  rfl
theorem cmd_v0 {idx kd ln z : Nat} (h : code_of y pc = some (.invokevirtual idx, p, a, 0, cc)) (ha : (Nat.beq a 901 || Nat.beq a 903) = false) (hk : kf L D r = (kd, ln)) (hv : vtab kd a = some z) :
    cmd y pc Lc (.ref r :: S) (mk L D C M R n s) = some (.inr (.inr (.inr (z, [.ref r], (p, Lc, S), mk L D C M R n s)))) := by
  rw [cmd, h]
  simp only [Bool.or_eq_false_iff] at ha
  show (bif Nat.beq a 901 then (bif Nat.beq (kf L D r).1 103 && Nat.ble 281 r && Nat.ble S.length 20 then nx p Lc (.ref 277 :: S) (mk L D C M R n s) else none) else bif Nat.beq a 903 then none else match vtab (kf L D r).1 a with
    | some z => some (.inr (.inr (.inr (z, [.ref r], (p, Lc, S), mk L D C M R n s))))
    | none => (none : Option Cmd)) = _
  rw [ha.1, ha.2, hk]
  dsimp only
  rw [hv]
  rfl
theorem cmd_v1 {idx kd ln z : Nat} {x1 : Value} (h : code_of y pc = some (.invokevirtual idx, p, a, 1, cc)) (ha : (Nat.beq a 901 || Nat.beq a 903) = false) (hk : kf L D r = (kd, ln)) (hv : vtab kd a = some z) :
    cmd y pc Lc (x1 :: .ref r :: S) (mk L D C M R n s) = some (.inr (.inr (.inr (z, [.ref r, x1], (p, Lc, S), mk L D C M R n s)))) := by
  rw [cmd, h]
  simp only [Bool.or_eq_false_iff] at ha
  show (bif Nat.beq a 901 then (bif Nat.beq (kf L D r).1 103 && Nat.ble 281 r && Nat.ble S.length 20 then nx p Lc (.ref 277 :: S) (mk L D C M R n s) else none) else bif Nat.beq a 903 then none else match vtab (kf L D r).1 a with
    | some z => some (.inr (.inr (.inr (z, [.ref r, x1], (p, Lc, S), mk L D C M R n s))))
    | none => (none : Option Cmd)) = _
  rw [ha.1, ha.2, hk]
  dsimp only
  rw [hv]
  rfl
theorem cmd_v2 {idx kd ln z : Nat} {x1 x2 : Value} (h : code_of y pc = some (.invokevirtual idx, p, a, 2, cc)) (ha : (Nat.beq a 901 || Nat.beq a 903) = false) (hk : kf L D r = (kd, ln)) (hv : vtab kd a = some z) :
    cmd y pc Lc (x2 :: x1 :: .ref r :: S) (mk L D C M R n s) = some (.inr (.inr (.inr (z, [.ref r, x1, x2], (p, Lc, S), mk L D C M R n s)))) := by
  rw [cmd, h]
  simp only [Bool.or_eq_false_iff] at ha
  show (bif Nat.beq a 901 then (bif Nat.beq (kf L D r).1 103 && Nat.ble 281 r && Nat.ble S.length 20 then nx p Lc (.ref 277 :: S) (mk L D C M R n s) else none) else bif Nat.beq a 903 then none else match vtab (kf L D r).1 a with
    | some z => some (.inr (.inr (.inr (z, [.ref r, x1, x2], (p, Lc, S), mk L D C M R n s))))
    | none => (none : Option Cmd)) = _
  rw [ha.1, ha.2, hk]
  dsimp only
  rw [hv]
  rfl
theorem cmd_v3 {idx kd ln z : Nat} {x1 x2 x3 : Value} (h : code_of y pc = some (.invokevirtual idx, p, a, 3, cc)) (ha : (Nat.beq a 901 || Nat.beq a 903) = false) (hk : kf L D r = (kd, ln)) (hv : vtab kd a = some z) :
    cmd y pc Lc (x3 :: x2 :: x1 :: .ref r :: S) (mk L D C M R n s) = some (.inr (.inr (.inr (z, [.ref r, x1, x2, x3], (p, Lc, S), mk L D C M R n s)))) := by
  rw [cmd, h]
  simp only [Bool.or_eq_false_iff] at ha
  show (bif Nat.beq a 901 then (bif Nat.beq (kf L D r).1 103 && Nat.ble 281 r && Nat.ble S.length 20 then nx p Lc (.ref 277 :: S) (mk L D C M R n s) else none) else bif Nat.beq a 903 then none else match vtab (kf L D r).1 a with
    | some z => some (.inr (.inr (.inr (z, [.ref r, x1, x2, x3], (p, Lc, S), mk L D C M R n s))))
    | none => (none : Option Cmd)) = _
  rw [ha.1, ha.2, hk]
  dsimp only
  rw [hv]
  rfl
theorem cmd_v4 {idx kd ln z : Nat} {x1 x2 x3 x4 : Value} (h : code_of y pc = some (.invokevirtual idx, p, a, 4, cc)) (ha : (Nat.beq a 901 || Nat.beq a 903) = false) (hk : kf L D r = (kd, ln)) (hv : vtab kd a = some z) :
    cmd y pc Lc (x4 :: x3 :: x2 :: x1 :: .ref r :: S) (mk L D C M R n s) = some (.inr (.inr (.inr (z, [.ref r, x1, x2, x3, x4], (p, Lc, S), mk L D C M R n s)))) := by
  rw [cmd, h]
  simp only [Bool.or_eq_false_iff] at ha
  show (bif Nat.beq a 901 then (bif Nat.beq (kf L D r).1 103 && Nat.ble 281 r && Nat.ble S.length 20 then nx p Lc (.ref 277 :: S) (mk L D C M R n s) else none) else bif Nat.beq a 903 then none else match vtab (kf L D r).1 a with
    | some z => some (.inr (.inr (.inr (z, [.ref r, x1, x2, x3, x4], (p, Lc, S), mk L D C M R n s))))
    | none => (none : Option Cmd)) = _
  rw [ha.1, ha.2, hk]
  dsimp only
  rw [hv]
  rfl
theorem cmd_v5 {idx kd ln z : Nat} {x1 x2 x3 x4 x5 : Value} (h : code_of y pc = some (.invokevirtual idx, p, a, 5, cc)) (ha : (Nat.beq a 901 || Nat.beq a 903) = false) (hk : kf L D r = (kd, ln)) (hv : vtab kd a = some z) :
    cmd y pc Lc (x5 :: x4 :: x3 :: x2 :: x1 :: .ref r :: S) (mk L D C M R n s) = some (.inr (.inr (.inr (z, [.ref r, x1, x2, x3, x4, x5], (p, Lc, S), mk L D C M R n s)))) := by
  rw [cmd, h]
  simp only [Bool.or_eq_false_iff] at ha
  show (bif Nat.beq a 901 then (bif Nat.beq (kf L D r).1 103 && Nat.ble 281 r && Nat.ble S.length 20 then nx p Lc (.ref 277 :: S) (mk L D C M R n s) else none) else bif Nat.beq a 903 then none else match vtab (kf L D r).1 a with
    | some z => some (.inr (.inr (.inr (z, [.ref r, x1, x2, x3, x4, x5], (p, Lc, S), mk L D C M R n s))))
    | none => (none : Option Cmd)) = _
  rw [ha.1, ha.2, hk]
  dsimp only
  rw [hv]
  rfl
theorem go_obj {idx : Nat} (h : code_of y pc = some (.invokespecial idx, p, 900, 0, cc)) (hc : cw r = true) (hS : Nat.ble S.length 20 = true) (k : Go d y p Lc S m Q) : Go d y pc Lc (.ref r :: S) m Q := by
  refine go_nx (p := p) (L' := Lc) (S' := S) (m' := m) ?_ k
  rw [cmd, h]
  show (bif Nat.ble 281 r then (bif Nat.ble S.length 20 then nx p Lc S m else none) else none) = _
  rw [cw_l hc, hS]
  rfl
theorem cmd_i0 {idx : Nat} (h : code_of y pc = some (.invokespecial idx, p, a, 0, cc)) (ha : Nat.beq a 900 = false) (hb : Nat.beq a 906 = false) (hc : Nat.ble 281 r = true) :
    cmd y pc Lc (.ref r :: S) m = some (.inr (.inr (.inr (a, [.ref r], (p, Lc, S), m)))) := by
  rw [cmd, h]
  show (bif Nat.ble 281 r then (bif Nat.beq a 900 then (bif Nat.ble S.length 20 then nx p Lc S m else none) else bif Nat.beq a 906 then thrI r p Lc S m else some (.inr (.inr (.inr (a, [.ref r], (p, Lc, S), m))))) else none) = _
  rw [hc, ha, hb]
  rfl
theorem cmd_i1 {idx : Nat} {x1 : Value} (h : code_of y pc = some (.invokespecial idx, p, a, 1, cc)) (ha : Nat.beq a 900 = false) (hb : Nat.beq a 906 = false) (hc : Nat.ble 281 r = true) :
    cmd y pc Lc (x1 :: .ref r :: S) m = some (.inr (.inr (.inr (a, [.ref r, x1], (p, Lc, S), m)))) := by
  rw [cmd, h]
  show (bif Nat.ble 281 r then (bif Nat.beq a 900 then (bif Nat.ble S.length 20 then nx p Lc S m else none) else bif Nat.beq a 906 then thrI r p Lc S m else some (.inr (.inr (.inr (a, [.ref r, x1], (p, Lc, S), m))))) else none) = _
  rw [hc, ha, hb]
  rfl
theorem cmd_i2 {idx : Nat} {x1 x2 : Value} (h : code_of y pc = some (.invokespecial idx, p, a, 2, cc)) (ha : Nat.beq a 900 = false) (hb : Nat.beq a 906 = false) (hc : Nat.ble 281 r = true) :
    cmd y pc Lc (x2 :: x1 :: .ref r :: S) m = some (.inr (.inr (.inr (a, [.ref r, x1, x2], (p, Lc, S), m)))) := by
  rw [cmd, h]
  show (bif Nat.ble 281 r then (bif Nat.beq a 900 then (bif Nat.ble S.length 20 then nx p Lc S m else none) else bif Nat.beq a 906 then thrI r p Lc S m else some (.inr (.inr (.inr (a, [.ref r, x1, x2], (p, Lc, S), m))))) else none) = _
  rw [hc, ha, hb]
  rfl
theorem cmd_i3 {idx : Nat} {x1 x2 x3 : Value} (h : code_of y pc = some (.invokespecial idx, p, a, 3, cc)) (ha : Nat.beq a 900 = false) (hb : Nat.beq a 906 = false) (hc : Nat.ble 281 r = true) :
    cmd y pc Lc (x3 :: x2 :: x1 :: .ref r :: S) m = some (.inr (.inr (.inr (a, [.ref r, x1, x2, x3], (p, Lc, S), m)))) := by
  rw [cmd, h]
  show (bif Nat.ble 281 r then (bif Nat.beq a 900 then (bif Nat.ble S.length 20 then nx p Lc S m else none) else bif Nat.beq a 906 then thrI r p Lc S m else some (.inr (.inr (.inr (a, [.ref r, x1, x2, x3], (p, Lc, S), m))))) else none) = _
  rw [hc, ha, hb]
  rfl
theorem cmd_i4 {idx : Nat} {x1 x2 x3 x4 : Value} (h : code_of y pc = some (.invokespecial idx, p, a, 4, cc)) (ha : Nat.beq a 900 = false) (hb : Nat.beq a 906 = false) (hc : Nat.ble 281 r = true) :
    cmd y pc Lc (x4 :: x3 :: x2 :: x1 :: .ref r :: S) m = some (.inr (.inr (.inr (a, [.ref r, x1, x2, x3, x4], (p, Lc, S), m)))) := by
  rw [cmd, h]
  show (bif Nat.ble 281 r then (bif Nat.beq a 900 then (bif Nat.ble S.length 20 then nx p Lc S m else none) else bif Nat.beq a 906 then thrI r p Lc S m else some (.inr (.inr (.inr (a, [.ref r, x1, x2, x3, x4], (p, Lc, S), m))))) else none) = _
  rw [hc, ha, hb]
  rfl
theorem cmd_i5 {idx : Nat} {x1 x2 x3 x4 x5 : Value} (h : code_of y pc = some (.invokespecial idx, p, a, 5, cc)) (ha : Nat.beq a 900 = false) (hb : Nat.beq a 906 = false) (hc : Nat.ble 281 r = true) :
    cmd y pc Lc (x5 :: x4 :: x3 :: x2 :: x1 :: .ref r :: S) m = some (.inr (.inr (.inr (a, [.ref r, x1, x2, x3, x4, x5], (p, Lc, S), m)))) := by
  rw [cmd, h]
  show (bif Nat.ble 281 r then (bif Nat.beq a 900 then (bif Nat.ble S.length 20 then nx p Lc S m else none) else bif Nat.beq a 906 then thrI r p Lc S m else some (.inr (.inr (.inr (a, [.ref r, x1, x2, x3, x4, x5], (p, Lc, S), m))))) else none) = _
  rw [hc, ha, hb]
  rfl
theorem go_tsd {dflt lo hi : Int} {offs : Array Int} {x : Int32} (h : cmd y pc Lc S' m = swT pc dflt lo hi offs Lc (.int x :: S) m) (hc : x.toInt < lo ∨ hi < x.toInt) (k1 : Go d y ((pc : Int) + dflt).toNat Lc S m Q) : Go d y pc Lc S' m Q := by
  unfold swT at h
  dsimp only at h
  rw [if_pos hc] at h
  exact go_nx h k1
theorem go_bt {c : Prop} [i : Decidable c] {m1 : Mem} (h : cmd y pc Lc S m = br c t p Lc' S' m1) (hc : c) (k : Go d y t Lc' S' m1 Q) : Go d y pc Lc S m Q := go_br h (fun _ => k) (fun q => absurd hc q)
theorem go_bf {c : Prop} [i : Decidable c] {m1 : Mem} (h : cmd y pc Lc S m = br c t p Lc' S' m1) (hc : ¬ c) (k : Go d y p Lc' S' m1 Q) : Go d y pc Lc S m Q := go_br h (fun q => absurd q hc) (fun _ => k)
/-- a loop that counts -/
theorem go_for (N : Nat) (P : Nat → Lcs → Mem → Prop) (h0 : P 0 Lc m) (hs : ∀ k Lc m, k < N → P k Lc m → (∀ L' m', P (k + 1) L' m' → Go d y pc L' [] m' Q) → Go d y pc Lc [] m Q) (hf : ∀ Lc m, P N Lc m → Go d y pc Lc [] m Q) : Go d y pc Lc [] m Q := by
  have g : ∀ j k Lc m, k + j = N → P k Lc m → Go d y pc Lc [] m Q := by
    intro j
    induction j with
    | zero => intro k Lc m hk hp; rw [Nat.add_zero] at hk; subst hk; exact hf _ _ hp
    | succ j ih => intro k Lc m hk hp; exact hs k Lc m (by omega) hp (fun L' m' hp' => ih (k + 1) L' m' (by omega) hp')
  exact g N 0 Lc m (by omega) h0
/-- a loop by a measure -/
theorem go_ind (P : Nat → Lcs → Mem → Prop) (hs : ∀ k Lc m, P k Lc m → (∀ j L' m', j < k → P j L' m' → Go d y pc L' [] m' Q) → Go d y pc Lc [] m Q) {k : Nat} (h : P k Lc m) : Go d y pc Lc [] m Q := by
  induction k using Nat.strongRecOn generalizing Lc m with
  | _ k ih => exact hs k Lc m h (fun j L' m' hj hp => ih j hj hp)
end GT
/-! small facts -/
theorem wr_fuS {α : Type} (M : Nat → Nat → α) (a k : Nat) (f : Nat → α) (v : α) : wr (fu M a f) a k v = fu M a (fu f k v) := by
  funext b
  by_cases e : b = a
  · subst e; rw [wr_self, fu_self, fu_self]
  · rw [wr_ne e, fu_ne e, fu_ne e]
theorem fu_fu {α : Type} (M : Nat → α) (a : Nat) (f g : α) : fu (fu M a f) a g = fu M a g := by
  funext b
  by_cases e : b = a
  · subst e; rw [fu_self, fu_self]
  · rw [fu_ne e, fu_ne e, fu_ne e]
theorem fu_id {α : Type} (M : Nat → α) (a : Nat) : fu M a (M a) = M := by
  funext b
  by_cases e : b = a
  · subst e; rw [fu_self]
  · rw [fu_ne e]
theorem narK_bI {c : Prop} [Decidable c] : narK 102 (bI c) = bI c := by
  unfold bI
  split <;> rfl
theorem retOK_bI {c : Prop} [Decidable c] : retOK 1 (bI c) = true := by
  unfold bI
  split <;> rfl
theorem wrs {α : Type} (f : Nat → Nat → α) (a k : Nat) (v : α) : wr f a k v a k = v := by rw [wr_self, fu_self]
theorem wrk {α : Type} {f : Nat → Nat → α} {a k j : Nat} {v : α} (h : j ≠ k) : wr f a k v a j = f a j := by rw [wr_self, fu_ne h]
theorem nI_of' {x : Int32} (h : 0 ≤ x) : ∃ j : Nat, j < 2 ^ 31 ∧ x = nI j := nI_of (Int32.not_lt.mpr h)
theorem nI_sm {k : Nat} (h : k < 32) : ((nI k &&& 31).toBitVec.smod 32).toNat = k := by
  have : ∀ k : Fin 32, ((nI k.val &&& 31).toBitVec.smod 32).toNat = k.val := by decide
  exact this ⟨k, h⟩
theorem nI_shl {a k : Nat} (hk : k < 32) (h : a * 2 ^ k < 2 ^ 32) : nI a <<< (nI k &&& 31) = nI (a * 2 ^ k) := pk_shlN _ k (nI_sm hk) h
theorem nI_shr {a k : Nat} (hk : k < 32) (h : a < 2 ^ 31) : nI a >>> (nI k &&& 31) = nI (a / 2 ^ k) := pk_shrN h _ k (nI_sm hk)
theorem nI_bv (a : Nat) : (nI a).toBitVec = BitVec.ofNat 32 a := rfl
theorem nI_and (a b : Nat) : nI a &&& nI b = nI (a &&& b) := by
  apply Int32.toBitVec_inj.mp
  rw [Int32.toBitVec_and, nI_bv, nI_bv, nI_bv]
  apply BitVec.eq_of_toNat_eq
  simp only [BitVec.toNat_and, BitVec.toNat_ofNat]
  exact (Nat.and_mod_two_pow).symm
theorem nI_or (a b : Nat) : nI a ||| nI b = nI (a ||| b) := by
  apply Int32.toBitVec_inj.mp
  rw [Int32.toBitVec_or, nI_bv, nI_bv, nI_bv]
  apply BitVec.eq_of_toNat_eq
  simp only [BitVec.toNat_or, BitVec.toNat_ofNat]
  exact (Nat.or_mod_two_pow).symm
theorem nI_xor (a b : Nat) : nI a ^^^ nI b = nI (a ^^^ b) := by
  apply Int32.toBitVec_inj.mp
  rw [Int32.toBitVec_xor, nI_bv, nI_bv, nI_bv]
  apply BitVec.eq_of_toNat_eq
  simp only [BitVec.toNat_xor, BitVec.toNat_ofNat]
  exact (Nat.xor_mod_two_pow).symm
/-- a less what is in b -/
def nsub (a b : Nat) : Nat := a ^^^ (a &&& b)
theorem nI_not (a b : Nat) : nI a &&& (nI b ^^^ (-1)) = nI (nsub a b) := by
  unfold nsub
  rw [← nI_xor, ← nI_and]
  apply Int32.toBitVec_inj.mp
  simp only [Int32.toBitVec_and, Int32.toBitVec_xor]
  apply BitVec.eq_of_getLsbD_eq
  intro i hi
  have h1 : (Int32.toBitVec (-1)).getLsbD i = true := by
    show (BitVec.allOnes 32).getLsbD i = true
    rw [BitVec.getLsbD_allOnes]
    exact decide_eq_true hi
  simp only [BitVec.getLsbD_and, BitVec.getLsbD_xor, h1]
  cases (nI a).toBitVec.getLsbD i <;> cases (nI b).toBitVec.getLsbD i <;> rfl
/-- a bit of a set -/
theorem bitI_n {S k : Nat} (hS : S < 2 ^ 31) (hk : k < 32) : bitI (nI S) (nI k) = nI (S / 2 ^ k % 2) := by
  unfold bitI
  rw [nI_shr hk hS]
  show nI (S / 2 ^ k) &&& nI 1 = _
  rw [nI_and, Nat.and_one_is_mod]
theorem bitI_1 {S k : Nat} (hS : S < 2 ^ 31) (hk : k < 32) : bitI (nI S) (nI k) = 1 ↔ S.testBit k = true := by
  rw [bitI_n hS hk, show (1 : Int32) = nI 1 from rfl, nI_eq (by omega) (by decide), Nat.testBit_eq_decide_div_mod_eq]
  simp
