/-! ===== rows for ends of calls by kind, references compared, elements known ===== -/
set_option maxRecDepth 100000
section WY
variable {l : Launch} {G : w_G} {T T' : w_T} {B B' : w_R} {X : w_X} {k n : Nat} {M : w_M} {pc : Nat} {L : List (Nat × Value)} {st st0 : List Value} {Q Q' : w_O → w_M → Prop} {k2 n2 len : Nat}
theorem wc_isI {v : Int32} {M1 : w_M} (h : w_Run l G T B X k n M pc len L st0 st (w_is (.inl (some (.int v))) M1) k2 n2) (kk : w_A l G T B X k2 n2 M1 (pc + len) L (.int v :: st) Q) : w_A l G T B X k n M pc L st0 Q := wc_is h kk
theorem wc_isJ {v : Int64} {M1 : w_M} (h : w_Run l G T B X k n M pc len L st0 st (w_is (.inl (some (.long v))) M1) k2 n2) (kk : w_A l G T B X k2 n2 M1 (pc + len) L (.long v :: st) Q) : w_A l G T B X k n M pc L st0 Q := wc_is h kk
theorem wc_isF {v : UInt32} {M1 : w_M} (h : w_Run l G T B X k n M pc len L st0 st (w_is (.inl (some (.float v))) M1) k2 n2) (kk : w_A l G T B X k2 n2 M1 (pc + len) L (.float v :: st) Q) : w_A l G T B X k n M pc L st0 Q := wc_is h kk
theorem wc_isD {v : UInt64} {M1 : w_M} (h : w_Run l G T B X k n M pc len L st0 st (w_is (.inl (some (.double v))) M1) k2 n2) (kk : w_A l G T B X k2 n2 M1 (pc + len) L (.double v :: st) Q) : w_A l G T B X k n M pc L st0 Q := wc_is h kk
theorem wc_isA {v : Nat} {M1 : w_M} (h : w_Run l G T B X k n M pc len L st0 st (w_is (.inl (some (.ref v))) M1) k2 n2) (kk : w_A l G T B X k2 n2 M1 (pc + len) L (.ref v :: st) Q) : w_A l G T B X k n M pc L st0 Q := wc_is h kk
theorem wc_isN {M1 : w_M} (h : w_Run l G T B X k n M pc len L st0 st (w_is (.inl (some .null)) M1) k2 n2) (kk : w_A l G T B X k2 n2 M1 (pc + len) L (.null :: st) Q) : w_A l G T B X k n M pc L st0 Q := wc_is h kk
theorem wc_isV {M1 : w_M} (h : w_Run l G T B X k n M pc len L st0 st (w_is (.inl none) M1) k2 n2) (kk : w_A l G T B X k2 n2 M1 (pc + len) L st Q) : w_A l G T B X k n M pc L st0 Q := wc_is h kk
/-- it ends with a throw of the class E, of a cell that is told -/
def w_thr (E : String) (post : Nat → w_M → Prop) : w_O → w_M → Prop := fun o M' => ∃ q, o = .inr (E, q) ∧ post q M'
theorem wc_thr {E : String} {post : Nat → w_M → Prop} (h : w_Run l G T B X k n M pc len L st0 st (w_thr E post) k2 n2) (kk : ∀ q M', post q M' → w_AX l G T B X k2 n2 M' pc L E q Q) : w_A l G T B X k n M pc L st0 Q :=
  h Q (fun v' M' q => by obtain ⟨r, q1, q2⟩ := q; cases q1) (fun E' q' M' q => by obtain ⟨r, q1, q2⟩ := q; cases q1; exact kk _ M' q2)
theorem wa_aaldS {a m x : Nat} {f : Nat → Option Nat} {i : Int32} (hd : decode T.1 pc = .ok (.aaload, 1)) (hM : M.get a = some (.inl (.object "java/lang/Object", m, .inr (.inr (.inr (.inr f)))))) (hi : vp_in i m) (hx : f i.toNatClampNeg = some x) (kk : w_A l G T B X k n M (pc + 1) L (.ref x :: st) Q) : w_A l G T B X k n M pc L (.int i :: .ref a :: st) Q :=
  wa_aald hd hM hi (by rw [hx]; exact kk)
theorem wa_aaldN {a m : Nat} {f : Nat → Option Nat} {i : Int32} (hd : decode T.1 pc = .ok (.aaload, 1)) (hM : M.get a = some (.inl (.object "java/lang/Object", m, .inr (.inr (.inr (.inr f)))))) (hi : vp_in i m) (hx : f i.toNatClampNeg = none) (kk : w_A l G T B X k n M (pc + 1) L (.null :: st) Q) : w_A l G T B X k n M pc L (.int i :: .ref a :: st) Q :=
  wa_aald hd hM hi (by rw [hx]; exact kk)
theorem wa_acmpRR_eq {x y : Nat} {off : Int} (t : Nat) (hd : decode T.1 pc = .ok (.if_acmp .eq off, 3)) (ht : (pc : Int) + off = (t : Int)) (kt : x = y → w_A l G T B X k n M t L st Q) (kf : ¬ x = y → w_A l G T B X k n M (pc + 3) L st Q) : w_A l G T B X k n M pc L (.ref y :: .ref x :: st) Q :=
  wa_acmp_eq (rx := some x) (ry := some y) t hd ht (fun h => kt (Option.some.inj h)) (fun h => kf (fun e => h (by rw [e])))
theorem wa_acmpRR_ne {x y : Nat} {off : Int} (t : Nat) (hd : decode T.1 pc = .ok (.if_acmp .ne off, 3)) (ht : (pc : Int) + off = (t : Int)) (kt : ¬ x = y → w_A l G T B X k n M t L st Q) (kf : x = y → w_A l G T B X k n M (pc + 3) L st Q) : w_A l G T B X k n M pc L (.ref y :: .ref x :: st) Q :=
  wa_acmp_ne (rx := some x) (ry := some y) t hd ht (fun h => kt (fun e => h (by rw [e]))) (fun h => kf (Option.some.inj h))
theorem wa_acmpNR_eq {x : Nat} {off : Int} (t : Nat) (hd : decode T.1 pc = .ok (.if_acmp .eq off, 3)) (ht : (pc : Int) + off = (t : Int)) (kt : False → w_A l G T B X k n M t L st Q) (kf : True → w_A l G T B X k n M (pc + 3) L st Q) : w_A l G T B X k n M pc L (.null :: .ref x :: st) Q :=
  wa_acmp_eq (rx := some x) (ry := none) t hd ht (fun h => by cases h) (fun _ => kf trivial)
theorem wa_acmpNR_ne {x : Nat} {off : Int} (t : Nat) (hd : decode T.1 pc = .ok (.if_acmp .ne off, 3)) (ht : (pc : Int) + off = (t : Int)) (kt : True → w_A l G T B X k n M t L st Q) (kf : False → w_A l G T B X k n M (pc + 3) L st Q) : w_A l G T B X k n M pc L (.null :: .ref x :: st) Q :=
  wa_acmp_ne (rx := some x) (ry := none) t hd ht (fun _ => kt trivial) (fun h => by cases h)
theorem wa_acmpRN_eq {x : Nat} {off : Int} (t : Nat) (hd : decode T.1 pc = .ok (.if_acmp .eq off, 3)) (ht : (pc : Int) + off = (t : Int)) (kt : False → w_A l G T B X k n M t L st Q) (kf : True → w_A l G T B X k n M (pc + 3) L st Q) : w_A l G T B X k n M pc L (.ref x :: .null :: st) Q :=
  wa_acmp_eq (rx := none) (ry := some x) t hd ht (fun h => by cases h) (fun _ => kf trivial)
theorem wa_acmpRN_ne {x : Nat} {off : Int} (t : Nat) (hd : decode T.1 pc = .ok (.if_acmp .ne off, 3)) (ht : (pc : Int) + off = (t : Int)) (kt : True → w_A l G T B X k n M t L st Q) (kf : False → w_A l G T B X k n M (pc + 3) L st Q) : w_A l G T B X k n M pc L (.ref x :: .null :: st) Q :=
  wa_acmp_ne (rx := none) (ry := some x) t hd ht (fun _ => kt trivial) (fun h => by cases h)
theorem wa_acmpNN_eq {off : Int} (t : Nat) (hd : decode T.1 pc = .ok (.if_acmp .eq off, 3)) (ht : (pc : Int) + off = (t : Int)) (kt : True → w_A l G T B X k n M t L st Q) (kf : False → w_A l G T B X k n M (pc + 3) L st Q) : w_A l G T B X k n M pc L (.null :: .null :: st) Q :=
  wa_acmp_eq (rx := none) (ry := none) t hd ht (fun _ => kt trivial) (fun h => absurd rfl h)
theorem wa_acmpNN_ne {off : Int} (t : Nat) (hd : decode T.1 pc = .ok (.if_acmp .ne off, 3)) (ht : (pc : Int) + off = (t : Int)) (kt : False → w_A l G T B X k n M t L st Q) (kf : True → w_A l G T B X k n M (pc + 3) L st Q) : w_A l G T B X k n M pc L (.null :: .null :: st) Q :=
  wa_acmp_ne (rx := none) (ry := none) t hd ht (fun h => absurd rfl h) (fun _ => kf trivial)
end WY
/-! Math.min and Math.max -/
section WMM
variable {l : Launch} {G : w_G} {T : w_T} {B : w_R} {X : w_X} {k n : Nat} {M : w_M} {pc : Nat} {L : List (Nat × Value)} {st : List Value} {Q : w_O → w_M → Prop}
theorem wa_mmin {idx : Nat} {x y : Int32} (hd : decode T.1 pc = .ok (.invokestatic idx, 3)) (hlink : Cond.methodLink T.2.1.cls idx Lib.Math.min.name ∈ lw_all) (hB : Nat.ble 1 B.1 = true) (h8 : (st.map fun v => v.category).sum ≤ 8) (h1 : k ≤ B.2.1) (h2 : n ≤ B.2.2) (kk : w_A l G T B X k n M (pc + 3) L (.int (if y < x then y else x) :: st) Q) : w_A l G T B X k n M pc L (.int y :: .int x :: st) Q := by
  intro O H locs ls hR h0 hl
  have hts := O.2.2.2.2.2.2.1
  have hRm : X.2.2.1 = w_rm B := O.2.2.2.2.2.2.2.1
  have hB := Nat.le_of_ble_eq_true hB
  exact va_mmin O.1 O.2.1 (O.2.2.1.trans hl.1.symm) O.2.2.2.2.2.1 (hts _ hlink) (hts _ q370) (hts _ q84) (hts _ q371) (by rw [hRm]; exact hB) (by rw [hRm]; show _ ≤ 64 * B.1; omega) (by rw [hRm]; exact h1) (by rw [hRm]; exact h2) hd (kk O H locs ls hR h0 hl)
theorem wa_mmax {idx : Nat} {x y : Int32} (hd : decode T.1 pc = .ok (.invokestatic idx, 3)) (hlink : Cond.methodLink T.2.1.cls idx Lib.Math.max.name ∈ lw_all) (hB : Nat.ble 1 B.1 = true) (h8 : (st.map fun v => v.category).sum ≤ 8) (h1 : k ≤ B.2.1) (h2 : n ≤ B.2.2) (kk : w_A l G T B X k n M (pc + 3) L (.int (if x < y then y else x) :: st) Q) : w_A l G T B X k n M pc L (.int y :: .int x :: st) Q := by
  intro O H locs ls hR h0 hl
  have hts := O.2.2.2.2.2.2.1
  have hRm : X.2.2.1 = w_rm B := O.2.2.2.2.2.2.2.1
  have hB := Nat.le_of_ble_eq_true hB
  exact va_mmax O.1 O.2.1 (O.2.2.1.trans hl.1.symm) O.2.2.2.2.2.1 (hts _ hlink) (hts _ q324) (hts _ q84) (hts _ q325) (by rw [hRm]; exact hB) (by rw [hRm]; show _ ≤ 64 * B.1; omega) (by rw [hRm]; exact h1) (by rw [hRm]; exact h2) hd (kk O H locs ls hR h0 hl)
end WMM
/-! what stays -/
/-- M' is M gone on: what M knows stays, but at W -/
def w_fr (M M' : w_M) (W : Nat → Prop) : Prop := M.sz ≤ M'.sz ∧ ∀ q e, M.get q = some e → ¬ W q → M'.get q = some e
theorem w_fr.rf {M : w_M} {W : Nat → Prop} : w_fr M M W := ⟨Nat.le_refl _, fun _ _ h _ => h⟩
theorem w_fr.trans {M M1 M2 : w_M} {W : Nat → Prop} (h1 : w_fr M M1 W) (h2 : w_fr M1 M2 W) : w_fr M M2 W := ⟨Nat.le_trans h1.1 h2.1, fun q e h hw => h2.2 q e (h1.2 q e h hw) hw⟩
theorem w_fr.mono {M M1 : w_M} {W W' : Nat → Prop} (h1 : w_fr M M1 W) (h : ∀ q, q < M.sz → W q → W' q) : w_fr M M1 W' := ⟨h1.1, fun q e hq hw => h1.2 q e hq (fun z => hw (h q (w_lt hq) z))⟩
theorem w_fr.set {M M1 : w_M} {W : Nat → Prop} (h1 : w_fr M M1 W) {a : Nat} {e : w_E} (h : W a) : w_fr M (M1.set a e) W := ⟨h1.1, fun q e' hq hw => by rw [w_set_ne (fun z => hw (by rw [z]; exact h))]; exact h1.2 q e' hq hw⟩
/-- a cell that is new since M -/
theorem w_fr.setN {M M1 : w_M} {W : Nat → Prop} (h1 : w_fr M M1 W) {a : Nat} {e : w_E} (h : M.sz ≤ a) : w_fr M (M1.set a e) W := ⟨h1.1, fun q e' hq hw => by rw [w_set_ne (by have := w_lt hq; omega)]; exact h1.2 q e' hq hw⟩
theorem w_fr.push {M M1 : w_M} {W : Nat → Prop} (h1 : w_fr M M1 W) {e : w_E} : w_fr M (M1.push e) W := ⟨Nat.le_succ_of_le h1.1, fun q e' hq hw => w_push_old (h1.2 q e' hq hw)⟩
theorem w_inc (n : Nat) : nI n + Int32.ofInt 1 = nI (n + 1) := (congrArg (fun z => nI n + z) (by decide : Int32.ofInt 1 = 1)).trans (nI_1 n)
theorem w_dec (n : Nat) : nI (n + 1) + Int32.ofInt (-1) = nI n := (congrArg (fun z => nI (n + 1) + z) (by decide : Int32.ofInt (-1) = -1)).trans (pk_m1 n)
theorem w_inc1 (x : Int32) : x + Int32.ofInt 1 = x + 1 := congrArg (fun z => x + z) (by decide : Int32.ofInt 1 = 1)
theorem w_fr.me {M M1 : w_M} {a : Nat} {e : w_E} (h : w_fr M M1 (fun q => q = a)) : w_fr M (M1.set a e) (fun q => q = a) := h.set (W := fun q => q = a) rfl
theorem w_fr_me {M : w_M} {a : Nat} {e : w_E} : w_fr M (M.set a e) (fun q => q = a) := w_fr.rf.me
theorem wc_isx {l : Launch} {G : w_G} {T : w_T} {B : w_R} {X : w_X} {k n : Nat} {M : w_M} {pc : Nat} {L : List (Nat × Value)} {st st0 : List Value} {Q : w_O → w_M → Prop} {k2 n2 len : Nat} {E : String} {q : Nat} {M1 : w_M} (h : w_Run l G T B X k n M pc len L st0 st (w_is (.inr (E, q)) M1) k2 n2) (kk : w_AX l G T B X k2 n2 M1 pc L E q Q) : w_A l G T B X k n M pc L st0 Q :=
  h Q (fun v' M' z => by obtain ⟨q1, q2⟩ := z; cases q1) (fun E' q' M' z => by obtain ⟨q1, q2⟩ := z; cases q1; cases q2; exact kk)
/-- what the memory knows lies among the run's own cells; ArrayList's empty array doesn't -/
theorem wa_lo {l : Launch} {G : w_G} {T : w_T} {B : w_R} {X : w_X} {k n : Nat} {M : w_M} {pc : Nat} {L : List (Nat × Value)} {st : List Value} {Q : w_O → w_M → Prop} (kk : (∀ q e, M.get q = some e → w_lo G ≤ q) → (∀ e, M.get (w_ad G 0) ≠ some e) → w_A l G T B X k n M pc L st Q) : w_A l G T B X k n M pc L st Q := by
  intro O H locs ls hR h0 hl
  have h1 : ∀ q e, M.get q = some e → w_lo G ≤ q := fun q e h => (hR.2.2.1 q e h).1
  refine kk h1 (fun e he => ?_) O H locs ls hR h0 hl
  obtain ⟨cell, -, -, -, -, -, -, h7⟩ := O.2.2.2.2.2.2.2.2.1.2.2.2.2.2.2.1
  exact h7 (h1 _ _ he)
