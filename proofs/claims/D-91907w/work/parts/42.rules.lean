/-! THE PURE PART: rules that run straight code on their own, the fixed cells, int lemmas -/
set_option maxRecDepth 100000
/-- goes on by itself, whatever the values -/
def straight (ins : ClassFile.Instr) (a b : Nat) : Bool := match ins with
  | .ifCond _ _ => false
  | .if_icmp _ _ => false
  | .if_acmp _ _ => false
  | .ifnull _ => false
  | .ifnonnull _ => false
  | .tableswitch _ _ _ _ => false
  | .lookupswitch _ _ => false
  | .iaload => false
  | .baload => false
  | .aaload => false
  | .iastore => false
  | .bastore => false
  | .aastore => false
  | .idiv => false
  | .irem => false
  | .ldiv => false
  | .lrem => false
  | .newarray _ => false
  | .anewarray _ => false
  | .multianewarray _ _ => false
  | .new _ => false
  | .checkcast _ => false
  | .invokevirtual _ => false
  | .invokestatic _ => Nat.beq a 904 || Nat.beq a 905
  | .invokespecial _ => Nat.beq a 900
  | .athrow => false
  | .ireturn => false
  | .lreturn => false
  | .areturn => false
  | .return_ => false
  | .putfield _ => !(Nat.beq b 4 || (Nat.beq b 0 && Nat.beq a 7) || (Nat.beq b 18 && Nat.beq a 4))
  | _ => true
noncomputable def rnS (y t : Nat) : Nat → Nat → Lcs → List Value → Mem → Option (Fr × Mem)
  | 0, p, L, S, m => some ((p, L, S), m)
  | n + 1, pc, L, S, m => match code_of y pc with
    | none => none
    | some (ins, p, a, b, c) => bif straight ins a b then (match cmdI ins p a b c pc L S m with
      | some (.inl ((p', L', S'), m')) => bif Nat.beq p' t || Nat.ble p' pc then some ((p', L', S'), m') else rnS y t n p' L' S' m'
      | _ => none) else some ((pc, L, S), m)
section GS
variable {d y pc p t : Nat} {L L' : Lcs} {S S' : List Value} {m m' m1 m2 : Mem} {Q : Res → Prop}
theorem go_sN {n : Nat} (h : rnS y t n pc L S m = some ((p, L', S'), m')) (k : Go d y p L' S' m' Q) : Go d y pc L S m Q := by
  induction n generalizing pc L S m with
  | zero => rw [rnS] at h; cases h; exact k
  | succ n ih =>
    rw [rnS] at h
    cases hc : code_of y pc with
    | none => rw [hc] at h; cases h
    | some e =>
      obtain ⟨ins, p1, a, b, c⟩ := e
      rw [hc] at h
      dsimp only at h
      cases hs : straight ins a b with
      | false => rw [hs] at h; cases h; exact k
      | true =>
        rw [hs] at h
        dsimp only [cond] at h
        cases hi : cmdI ins p1 a b c pc L S m with
        | none => rw [hi] at h; cases h
        | some q =>
          rw [hi] at h
          match q, h with
          | .inl ((p', L1, S1), m1), h =>
            have hcmd : cmd y pc L S m = some (.inl ((p', L1, S1), m1)) := by rw [cmd, hc]; exact hi
            dsimp only at h
            cases hb : (Nat.beq p' t || Nat.ble p' pc) with
            | true => rw [hb] at h; cases h; exact go_nx hcmd k
            | false => rw [hb] at h; exact go_nx hcmd (ih h)
          | .inr _, h => cases h
/-- straight code, up to pc t, or to what isn't straight, or back -/
theorem go_s (t : Nat) (h : rnS y t 60 pc L S m = some ((p, L', S'), m')) (k : Go d y p L' S' m' Q) : Go d y pc L S m Q := go_sN h k
end GS
theorem t_isIn92 (d o : Nat) (v a b : Int32) (m : Mem) : Ev d 92 [.ref o, .int v, .int a, .int b] m (Rt (Is (some (.int (if a ≤ v ∧ v ≤ b then 1 else 0))) m)) := by
  refine ev_in rfl ?_
  refine go_s 0 rfl ?_
  refine go_br rfl (fun h1 => ?_) (fun h1 => ?_)
  · refine go_s 0 rfl ?_
    refine go_ret rfl ⟨?_, rfl⟩
    rw [if_neg (fun h => absurd h.1 (Int32.not_le.mpr h1))]
  · refine go_s 0 rfl ?_
    refine go_br rfl (fun h2 => ?_) (fun h2 => ?_)
    · refine go_s 0 rfl ?_
      refine go_ret rfl ⟨?_, rfl⟩
      rw [if_neg (fun h => absurd h.2 (Int32.not_le.mpr h2))]
    · refine go_s 0 rfl ?_
      refine go_ret rfl ⟨?_, rfl⟩
      rw [if_pos ⟨Int32.not_lt.mp h1, Int32.not_lt.mp h2⟩]
theorem t_isIn37 (d : Nat) (v a b : Int32) (m : Mem) : Ev d 37 [.int v, .int a, .int b] m (Rt (Is (some (.int (if a ≤ v ∧ v ≤ b then 1 else 0))) m)) := by
  refine ev_in rfl ?_
  refine go_s 0 rfl ?_
  refine go_br rfl (fun h1 => ?_) (fun h1 => ?_)
  · refine go_s 0 rfl ?_
    refine go_ret rfl ⟨?_, rfl⟩
    rw [if_neg (fun h => absurd h.1 (Int32.not_le.mpr h1))]
  · refine go_s 0 rfl ?_
    refine go_br rfl (fun h2 => ?_) (fun h2 => ?_)
    · refine go_s 0 rfl ?_
      refine go_ret rfl ⟨?_, rfl⟩
      rw [if_neg (fun h => absurd h.2 (Int32.not_le.mpr h2))]
    · refine go_s 0 rfl ?_
      refine go_ret rfl ⟨?_, rfl⟩
      rw [if_pos ⟨Int32.not_lt.mp h1, Int32.not_lt.mp h2⟩]
