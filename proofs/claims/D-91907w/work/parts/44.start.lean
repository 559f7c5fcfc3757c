/-! THE START: both objects made -/
set_option maxRecDepth 1000000
def outM (r : Option Res) : Mem := match r with
  | some (_, m) => m
  | none => (fun _ => (0, 0), fun _ _ => 0, fun _ _ => none, 0, 0)
noncomputable def mA (L : Nat) (xs : Nat → Int32) : Mem := outM (exec 300 1499 32 0 (entL [.ref 281] (mxl 32)) [] (mkc (0, 0) 24 (mem0 L xs)))
noncomputable def mB (L : Nat) (xs : Nat → Int32) : Mem := outM (exec 2000 1499 87 0 (entL [.ref 305] (mxl 87)) [] (mkc (3, 0) 52 (mA L xs)))
set_option maxHeartbeats 4000000 in
theorem xA (L : Nat) (xs : Nat → Int32) : exec 300 1499 32 0 (entL [.ref 281] (mxl 32)) [] (mkc (0, 0) 24 (mem0 L xs)) = some (.inl none, mA L xs) := by rfl
set_option maxHeartbeats 4000000 in
theorem xB (L : Nat) (xs : Nat → Int32) : exec 2000 1499 87 0 (entL [.ref 305] (mxl 87)) [] (mkc (3, 0) 52 (mA L xs)) = some (.inl none, mB L xs) := by rfl
set_option maxHeartbeats 4000000 in
theorem mB_K (L : Nat) (xs : Nat → Int32) : (mB L xs).1 = kChain L := by rfl
theorem mB_n (L : Nat) (xs : Nat → Int32) : (mB L xs).2.2.2.1 = 337 := by rfl
def rChain : Nat → Nat → Option Nat := (wr (fu (wr (fu (wr (fu (wr (fu (wr (fu (wr (fu (wr (fu (wr (fu (wr (fu (wr (fu (wr (fu (wr (fu (wr (fu (wr (fu (wr (fu (wr (fu (wr (fu (wr (fu (wr (fu (wr (fu (wr (fu (wr (fu (wr (fu (wr (fu (wr (fu (wr (fu (wr (fu (wr (fu (wr (fu (wr (fu (wr (fu (fu (wr (wr (fu (wr (fu (wr (fu (wr (fu (wr (fu (wr (fu (wr (fu (wr (fu (fu (wr (fu (wr (fu (wr (fu (wr (fu (wr (fu (wr (fu (wr (fu (wr (wr (fu (wr (fu (fu (wr (wr (fu (wr (fu (fu (wr (wr (fu (fu R0 281 (fun _ => none)) 282 (fun _ => none)) 282 1 (some 1)) 281 0 (some 282)) 283 (fun _ => none)) 284 (fun _ => none)) 283 0 (some 284)) 285 (fun _ => none)) 283 1 (some 285)) 281 1 (some 283)) 286 (fun _ => none)) 287 (fun _ => none)) 286 0 (some 287)) 288 (fun _ => none)) 286 1 (some 288)) 281 2 (some 286)) 289 (fun _ => none)) 281 8 (some 289)) 290 (fun _ => none)) 281 9 (some 290)) 291 (fun _ => none)) 281 13 (some 291)) 292 (fun _ => none)) 281 14 (some 292)) 293 (fun _ => none)) 281 15 (some 293)) 294 (fun _ => none)) 281 16 (some 294)) 295 (fun _ => none)) 281 20 (some 295)) 296 (fun _ => none)) 297 (fun _ => none)) 296 0 (some 297)) 298 (fun _ => none)) 296 1 (some 298)) 299 (fun _ => none)) 296 2 (some 299)) 300 (fun _ => none)) 296 3 (some 300)) 301 (fun _ => none)) 296 4 (some 301)) 302 (fun _ => none)) 296 5 (some 302)) 303 (fun _ => none)) 296 6 (some 303)) 304 (fun _ => none)) 296 7 (some 304)) 281 23 (some 296)) 305 (fun _ => none)) 306 (fun _ => none)) 305 3 (some 306)) 307 (fun _ => none)) 305 4 (some 307)) 308 (fun _ => none)) 305 5 (some 308)) 309 (fun _ => none)) 305 6 (some 309)) 310 (fun _ => none)) 305 7 (some 310)) 311 (fun _ => none)) 305 10 (some 311)) 312 (fun _ => none)) 305 11 (some 312)) 313 (fun _ => none)) 305 15 (some 313)) 314 (fun _ => none)) 305 16 (some 314)) 315 (fun _ => none)) 305 17 (some 315)) 316 (fun _ => none)) 305 23 (some 316)) 317 (fun _ => none)) 305 24 (some 317)) 318 (fun _ => none)) 305 25 (some 318)) 319 (fun _ => none)) 305 26 (some 319)) 320 (fun _ => none)) 305 29 (some 320)) 321 (fun _ => none)) 305 35 (some 321)) 322 (fun _ => none)) 305 36 (some 322)) 323 (fun _ => none)) 305 37 (some 323)) 324 (fun _ => none)) 305 38 (some 324)) 325 (fun _ => none)) 305 39 (some 325)) 326 (fun _ => none)) 305 41 (some 326)) 327 (fun _ => none)) 305 42 (some 327)) 328 (fun _ => none)) 305 43 (some 328)) 329 (fun _ => none)) 305 44 (some 329)) 330 (fun _ => none)) 305 45 (some 330)) 331 (fun _ => none)) 305 46 (some 331)) 332 (fun _ => none)) 305 47 (some 332)) 333 (fun _ => none)) 305 48 (some 333)) 334 (fun _ => none)) 305 49 (some 334)) 335 (fun _ => none)) 305 50 (some 335)) 336 (fun _ => none)) 305 51 (some 336))
set_option maxHeartbeats 4000000 in
theorem mB_Rc (L : Nat) (xs : Nat → Int32) : (mB L xs).2.2.1 = rChain := by rfl
theorem rC_2 : (List.range 9).map (fun i => rChain (2 + i) 0) = (List.range 9).map (fun i => rx (2 + i) 0) := by decide +kernel
theorem rC_20 (k : Nat) : rChain 20 k = rx 20 k := by rfl
theorem rC_281 : (List.range 60).map (fun i => rChain 281 i) = (List.range 60).map (fun i => rx 281 i) := by decide +kernel
theorem rC_283 : (List.range 60).map (fun i => rChain 283 i) = (List.range 60).map (fun i => rx 283 i) := by decide +kernel
theorem rC_286 : (List.range 60).map (fun i => rChain 286 i) = (List.range 60).map (fun i => rx 286 i) := by decide +kernel
theorem rC_296 : (List.range 60).map (fun i => rChain 296 i) = (List.range 60).map (fun i => rx 296 i) := by decide +kernel
theorem rC_305 : (List.range 60).map (fun i => rChain 305 i) = (List.range 60).map (fun i => rx 305 i) := by decide +kernel
theorem rC_R : rChain = rf rChain := by
  funext a k
  unfold rf
  cases h : fx a k with
  | false => rfl
  | true =>
    simp only [fx, Bool.or_eq_true, Bool.and_eq_true] at h
    show rChain a k = rx a k
    rcases h with (⟨⟨h1, h2⟩, h3⟩ | h) | ⟨h1, h2⟩
    · have h1 := Nat.le_of_ble_eq_true h1
      have h2 := Nat.le_of_ble_eq_true h2
      have h3 := Nat.eq_of_beq_eq_true h3
      subst h3
      have := range_pt (rC_2) (k := a - 2) (by omega)
      rw [show 2 + (a - 2) = a by omega] at this
      exact this
    · have h := Nat.eq_of_beq_eq_true h
      subst h
      exact rC_20 k
    · have h1 := Nat.le_of_ble_eq_true h1
      rcases h2 with (((h2 | h2) | h2) | h2) | h2 <;> (have h2 := Nat.eq_of_beq_eq_true h2; subst h2)
      · exact range_pt (rC_281) (by omega)
      · exact range_pt (rC_283) (by omega)
      · exact range_pt (rC_286) (by omega)
      · exact range_pt (rC_296) (by omega)
      · exact range_pt (rC_305) (by omega)
theorem mB_s (L : Nat) (xs : Nat → Int32) : (mB L xs).2.2.2.2 ≤ 72000 := Nat.le_of_ble_eq_true (by rfl)
theorem ev_of {f d z : Nat} {As : List Value} {m m' : Mem} {v : Option Value} (h : exec f d z 0 (entL As (mxl z)) [] m = some (.inl v, m')) : Ev d z As m (Rt (Is v m')) := ⟨f, _, h, rfl, rfl⟩
/-- the memory as the rounds have it -/
def mm (L : Nat) (D : Nat → Nat × Nat) (I : Nat → Nat → Int32) (Rd : Nat → Nat → Option Nat) (n s : Nat) : Mem := (kf L D, I, rf Rd, n, s)
theorem mB_mm (L : Nat) (xs : Nat → Int32) : mB L xs = mm L (kChain L) (mB L xs).2.1 rChain 337 (mB L xs).2.2.2.2 := by
  unfold mm
  rw [← kChain_kf, ← rC_R, ← mB_K L xs, ← mB_Rc L xs]
  rfl
theorem law_go {L : Nat} {xs : Nat → Int32} {Q : Res → Prop} (k : Go 1500 231 18 [some (.ref 0), some (.ref 281), some (.ref 305), some (.int 0)] [] (mB L xs) Q) : Go 1500 231 0 (entL [.ref 0] (mxl 231)) [] (mem0 L xs) Q := by
  refine go_run 2 rfl ?_
  refine go_f rfl rfl (ev_of (xA L xs)) ?_
  refine go_run 3 rfl ?_
  refine go_f rfl rfl (ev_of (xB L xs)) ?_
  refine go_s 18 rfl ?_
  exact k
