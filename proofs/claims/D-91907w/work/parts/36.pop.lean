/-! HOW MANY ARE IN A SET: the JDK's bitCount -/
set_option maxRecDepth 100000
def pcN (S : Nat) : Nat → Nat
  | 0 => 0
  | k + 1 => if S.testBit k = true then pcN S k + 1 else pcN S k
def popS (S : Nat) : Nat := pcN S 10
def bcE (x : Int32) : Int32 :=
  let u (a b : Int32) : Int32 := (a.toUInt32 >>> (b.toUInt32 &&& Int32.toUInt32 31)).toInt32
  let a := x - (u x 1 &&& 1431655765)
  let b := (a &&& 858993459) + (u a 2 &&& 858993459)
  let c := (b + u b 4) &&& 252645135
  let e := c + u c 8
  let g := e + u e 16
  g &&& 63
theorem bc_all : (List.range 1024).all (fun S => bcE (nI S) == nI (popS S)) = true := by decide +kernel
theorem bc_n {S : Nat} (h : S < 1024) : bcE (nI S) = nI (popS S) := by
  have := List.all_eq_true.mp bc_all S (List.mem_range.mpr h)
  exact eq_of_beq this
