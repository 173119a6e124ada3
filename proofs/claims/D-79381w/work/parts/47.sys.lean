/-! ===== RobotAisles: its state; what is refused; changes undone ===== -/
set_option maxRecDepth 100000
/-- core, cores before, saved core, reason, detail, text, fault -/
abbrev z_S : Type := z_C × List z_C × Option z_C × Int32 × Int32 × List Int32 × Int32
def z_cur (S : z_S) : z_C := S.1
def z_past (S : z_S) : List z_C := S.2.1
def z_sav (S : z_S) : Option z_C := S.2.2.1
def z_why (S : z_S) : Int32 := S.2.2.2.1
def z_det (S : z_S) : Int32 := S.2.2.2.2.1
def z_txt (S : z_S) : List Int32 := S.2.2.2.2.2.1
def z_flt (S : z_S) : Int32 := S.2.2.2.2.2.2
def z_come (S : z_S) (c : z_C) : z_S := (c, (if (z_past S).length = 8 then (z_past S).tail else z_past S) ++ [z_cur S], z_sav S, z_why S, z_det S, z_txt S, z_flt S)
def z_keep (S : z_S) (w d : Int32) : z_S := (z_cur S, z_past S, z_sav S, w, d, z_txt S, z_flt S)
/-- the cells that no call of RobotAisles' writes -/
def z_cm (E : Nat → Prop) (x bl ba tx : Nat) (q : Nat) : Prop := ¬ (q = x ∨ q = bl ∨ q = ba ∨ q = tx ∨ E q)
/-- RobotAisles at x; E: the cells of others -/
def z_sysL (G : w_G) (M : w_M) (E : Nat → Prop) (x bl ba tx ca : Nat) (sv : Option Nat) (bas : List Nat) (S : z_S) : Prop :=
  ((∀ q, E q → q < M.sz) ∧ ¬ E x ∧ ¬ E bl ∧ ¬ E ba ∧ ¬ E tx ∧ ¬ E (w_ad G 0)) ∧
  M.get x = some (.inr (0, [.ref ca, .ref bl, va_rf sv, .int (z_why S), .int (z_det S), .ref tx, .int (nI (z_txt S).length), .int (z_flt S)])) ∧
  z_core G M (z_cm E x bl ba tx) ca (z_cur S) ∧ w_AL G M bl ba bas ∧ bas.length = (z_past S).length ∧ (z_past S).length ≤ 8 ∧
  (∀ (i y : Nat) (c : z_C), bas[i]? = some y → (z_past S)[i]? = some c → z_core G M (z_cm E x bl ba tx) y c) ∧
  (match sv with
    | none => z_sav S = none
    | some y => ∃ c, z_sav S = some c ∧ z_core G M (z_cm E x bl ba tx) y c) ∧
  (z_txt S).length ≤ 60 ∧ ∃ f : Nat → Int32, M.get tx = some (.inl (.char, 60, .inl f)) ∧ ∀ (i : Nat) (v : Int32), (z_txt S)[i]? = some v → f i = v
def z_sys (G : w_G) (M : w_M) (E : Nat → Prop) (x bl tx : Nat) (S : z_S) : Prop := ∃ ba ca sv bas, z_sysL G M E x bl ba tx ca sv bas S
def w_rX (E : String) (post : Nat → w_M → Prop) : w_O → w_M → Prop := fun o M' => ∃ q, o = .inr (E, q) ∧ post q M'
section SY
variable {l : Launch} {G : w_G} {T : w_T} {B : w_R} {X : w_X} {k n : Nat} {M : w_M} {pc : Nat} {L : List (Nat × Value)} {st : List Value} {Q : w_O → w_M → Prop}
theorem wc_X {st0 : List Value} {E : String} {post : Nat → w_M → Prop} {k2 n2 len : Nat} (h : w_Run l G T B X k n M pc len L st0 st (w_rX E post) k2 n2) (kk : ∀ q M', post q M' → w_AX l G T B X k2 n2 M' pc L E q Q) : w_A l G T B X k n M pc L st0 Q :=
  h Q (fun v' M' q => by obtain ⟨r, q1, q2⟩ := q; cases q1) (fun E q M' z => by obtain ⟨r, q1, q2⟩ := z; cases q1; exact kk _ M' q2)
/-- ArrayList's empty array lies ahead of the memory's end -/
theorem wa_lo2 (kk : w_ad G 0 < M.sz → w_A l G T B X k n M pc L st Q) : w_A l G T B X k n M pc L st Q := by
  intro O H locs ls hR h0 hl
  refine kk ?_ O H locs ls hR h0 hl
  obtain ⟨cell, -, -, -, -, -, -, h7⟩ := O.2.2.2.2.2.2.2.2.1.2.2.2.2.2.2.1
  have h8 : ¬ w_lo G ≤ w_ad G 0 := h7
  have := hR.2.1
  omega
end SY
section SX
variable {l : Launch} {G : w_G} {M : w_M}
theorem sp_requireStateN : w_S l G tX1_requireState (6, 0, 0) [.int 1] M (w_is (.inl none) M) := by
  refine w_start (by decide) (Nat.le_of_ble_eq_true rfl) (fun X => ?_)
  refine wa_locals [(0, _)] [0] rfl ?_
  refine wa_iload_n 0 dX1_requireState_0 rfl rfl ?_
  refine wa_if_ne 12 dX1_requireState_1 rfl (fun c1 => ?_) (fun c1 => absurd c1 (by decide))
  refine wa_vret dX1_requireState_12 rfl (Nat.le_of_ble_eq_true rfl) (Nat.le_of_ble_eq_true rfl) ?_
  exact ⟨rfl, rfl⟩
theorem sp_requireStateT : w_S l G tX1_requireState (6, 1, 6) [.int 0] M (w_is (.inr ("java/lang/IllegalStateException", M.sz)) (M.push (.inr (18, [])))) := by
  refine w_start (by decide) (Nat.le_of_ble_eq_true rfl) (fun X => ?_)
  refine wa_locals [(0, _)] [0] rfl ?_
  refine wa_iload_n 0 dX1_requireState_0 rfl rfl ?_
  refine wa_if_ne 12 dX1_requireState_1 rfl (fun c1 => absurd rfl c1) (fun c1 => ?_)
  refine wa_make0 ["java/lang/RuntimeException", "java/lang/Exception"] dX1_requireState_4 dX1_requireState_7 dX1_requireState_8 x_ise (Nat.le_of_ble_eq_true rfl) (Nat.le_of_ble_eq_true rfl) (by decide) (by decide) (Nat.le_of_ble_eq_true rfl) ?_
  refine wa_athrow dX1_requireState_11 w_push_self rfl (wx_out (fun _ h => by cases h) (Nat.le_of_ble_eq_true rfl) (Nat.le_of_ble_eq_true rfl) ⟨rfl, rfl⟩)
theorem sp_requireArgumentN : w_S l G tX1_requireArgument (6, 0, 0) [.int 1] M (w_is (.inl none) M) := by
  refine w_start (by decide) (Nat.le_of_ble_eq_true rfl) (fun X => ?_)
  refine wa_locals [(0, _)] [0] rfl ?_
  refine wa_iload_n 0 dX1_requireArgument_0 rfl rfl ?_
  refine wa_if_ne 12 dX1_requireArgument_1 rfl (fun c1 => ?_) (fun c1 => absurd c1 (by decide))
  refine wa_vret dX1_requireArgument_12 rfl (Nat.le_of_ble_eq_true rfl) (Nat.le_of_ble_eq_true rfl) ?_
  exact ⟨rfl, rfl⟩
theorem sp_requireArgumentT : w_S l G tX1_requireArgument (6, 1, 6) [.int 0] M (w_is (.inr ("java/lang/IllegalArgumentException", M.sz)) (M.push (.inr (19, [])))) := by
  refine w_start (by decide) (Nat.le_of_ble_eq_true rfl) (fun X => ?_)
  refine wa_locals [(0, _)] [0] rfl ?_
  refine wa_iload_n 0 dX1_requireArgument_0 rfl rfl ?_
  refine wa_if_ne 12 dX1_requireArgument_1 rfl (fun c1 => absurd rfl c1) (fun c1 => ?_)
  refine wa_make0 ["java/lang/RuntimeException", "java/lang/Exception"] dX1_requireArgument_4 dX1_requireArgument_7 dX1_requireArgument_8 x_iae (Nat.le_of_ble_eq_true rfl) (Nat.le_of_ble_eq_true rfl) (by decide) (by decide) (Nat.le_of_ble_eq_true rfl) ?_
  refine wa_athrow dX1_requireArgument_11 w_push_self rfl (wx_out (fun _ h => by cases h) (Nat.le_of_ble_eq_true rfl) (Nat.le_of_ble_eq_true rfl) ⟨rfl, rfl⟩)
theorem sp_requireIndexN : w_S l G tX1_requireIndex (6, 0, 0) [.int 1] M (w_is (.inl none) M) := by
  refine w_start (by decide) (Nat.le_of_ble_eq_true rfl) (fun X => ?_)
  refine wa_locals [(0, _)] [0] rfl ?_
  refine wa_iload_n 0 dX1_requireIndex_0 rfl rfl ?_
  refine wa_if_ne 12 dX1_requireIndex_1 rfl (fun c1 => ?_) (fun c1 => absurd c1 (by decide))
  refine wa_vret dX1_requireIndex_12 rfl (Nat.le_of_ble_eq_true rfl) (Nat.le_of_ble_eq_true rfl) ?_
  exact ⟨rfl, rfl⟩
theorem sp_requireIndexT : w_S l G tX1_requireIndex (6, 1, 6) [.int 0] M (w_is (.inr ("java/lang/IndexOutOfBoundsException", M.sz)) (M.push (.inr (21, [])))) := by
  refine w_start (by decide) (Nat.le_of_ble_eq_true rfl) (fun X => ?_)
  refine wa_locals [(0, _)] [0] rfl ?_
  refine wa_iload_n 0 dX1_requireIndex_0 rfl rfl ?_
  refine wa_if_ne 12 dX1_requireIndex_1 rfl (fun c1 => absurd rfl c1) (fun c1 => ?_)
  refine wa_make0 ["java/lang/RuntimeException", "java/lang/Exception"] dX1_requireIndex_4 dX1_requireIndex_7 dX1_requireIndex_8 x_ioobe (Nat.le_of_ble_eq_true rfl) (Nat.le_of_ble_eq_true rfl) (by decide) (by decide) (Nat.le_of_ble_eq_true rfl) ?_
  refine wa_athrow dX1_requireIndex_11 w_push_self rfl (wx_out (fun _ h => by cases h) (Nat.le_of_ble_eq_true rfl) (Nat.le_of_ble_eq_true rfl) ⟨rfl, rfl⟩)
theorem sp_requireElementN : w_S l G tX1_requireElement (6, 0, 0) [.int 1] M (w_is (.inl none) M) := by
  refine w_start (by decide) (Nat.le_of_ble_eq_true rfl) (fun X => ?_)
  refine wa_locals [(0, _)] [0] rfl ?_
  refine wa_iload_n 0 dX1_requireElement_0 rfl rfl ?_
  refine wa_if_ne 12 dX1_requireElement_1 rfl (fun c1 => ?_) (fun c1 => absurd c1 (by decide))
  refine wa_vret dX1_requireElement_12 rfl (Nat.le_of_ble_eq_true rfl) (Nat.le_of_ble_eq_true rfl) ?_
  exact ⟨rfl, rfl⟩
theorem sp_requireElementT : w_S l G tX1_requireElement (6, 1, 6) [.int 0] M (w_is (.inr ("java/util/NoSuchElementException", M.sz)) (M.push (.inr (22, [])))) := by
  refine w_start (by decide) (Nat.le_of_ble_eq_true rfl) (fun X => ?_)
  refine wa_locals [(0, _)] [0] rfl ?_
  refine wa_iload_n 0 dX1_requireElement_0 rfl rfl ?_
  refine wa_if_ne 12 dX1_requireElement_1 rfl (fun c1 => absurd rfl c1) (fun c1 => ?_)
  refine wa_make0 ["java/lang/RuntimeException", "java/lang/Exception"] dX1_requireElement_4 dX1_requireElement_7 dX1_requireElement_8 x_nsee (Nat.le_of_ble_eq_true rfl) (Nat.le_of_ble_eq_true rfl) (by decide) (by decide) (Nat.le_of_ble_eq_true rfl) ?_
  refine wa_athrow dX1_requireElement_11 w_push_self rfl (wx_out (fun _ h => by cases h) (Nat.le_of_ble_eq_true rfl) (Nat.le_of_ble_eq_true rfl) ⟨rfl, rfl⟩)
theorem sp_requireSomeN {n : Int32} (h : ¬ n = 0) : w_S l G tX1_requireSome (6, 0, 0) [.int n] M (w_is (.inl none) M) := by
  refine w_start (by decide) (Nat.le_of_ble_eq_true rfl) (fun X => ?_)
  refine wa_locals [(0, _)] [0] rfl ?_
  refine wa_iload_n 0 dX1_requireSome_0 rfl rfl ?_
  refine wa_if_ne 12 dX1_requireSome_1 rfl (fun c1 => ?_) (fun c1 => absurd c1 h)
  refine wa_vret dX1_requireSome_12 rfl (Nat.le_of_ble_eq_true rfl) (Nat.le_of_ble_eq_true rfl) ?_
  exact ⟨rfl, rfl⟩
theorem sp_requireSomeT : w_S l G tX1_requireSome (6, 1, 6) [.int 0] M (w_is (.inr ("java/lang/ArithmeticException", M.sz)) (M.push (.inr (23, [])))) := by
  refine w_start (by decide) (Nat.le_of_ble_eq_true rfl) (fun X => ?_)
  refine wa_locals [(0, _)] [0] rfl ?_
  refine wa_iload_n 0 dX1_requireSome_0 rfl rfl ?_
  refine wa_if_ne 12 dX1_requireSome_1 rfl (fun c1 => absurd rfl c1) (fun c1 => ?_)
  refine wa_make0 ["java/lang/RuntimeException", "java/lang/Exception"] dX1_requireSome_4 dX1_requireSome_7 dX1_requireSome_8 x_arith (Nat.le_of_ble_eq_true rfl) (Nat.le_of_ble_eq_true rfl) (by decide) (by decide) (Nat.le_of_ble_eq_true rfl) ?_
  refine wa_athrow dX1_requireSome_11 w_push_self rfl (wx_out (fun _ h => by cases h) (Nat.le_of_ble_eq_true rfl) (Nat.le_of_ble_eq_true rfl) ⟨rfl, rfl⟩)
variable {E : Nat → Prop} {x bl ba tx ca : Nat} {sv : Option Nat} {bas : List Nat} {S : z_S}
theorem z_core.lt {P : Nat → Prop} {a : Nat} {c : z_C} (h : z_core G M P a c) : ∃ fs, M.get a = some (.inr (1, fs)) ∧ P a := by
  obtain ⟨_, _, _, _, _, _, _, _, h⟩ := h
  exact ⟨_, h.2.1, h.1.1⟩
/-- others' cells written -/
theorem z_sysL.keepE {N : w_M} (h : z_sysL G M E x bl ba tx ca sv bas S) (hf : w_fr M N E) : z_sysL G N E x bl ba tx ca sv bas S := by
  obtain ⟨⟨e1, e2, e3, e4, e5, e6⟩, h1, h2, h3, h4, h5, h6, h7, h8, f, h9, h10⟩ := h
  have hw : ∀ q, z_cm E x bl ba tx q → ¬ E q := fun q z e => z (Or.inr (Or.inr (Or.inr (Or.inr e))))
  refine ⟨⟨fun q z => Nat.lt_of_lt_of_le (e1 q z) hf.1, e2, e3, e4, e5, e6⟩, hf.2 _ _ h1 e2, h2.keep hf hw e6, h3.keep hf e3 e4, h4, h5, fun i y c z1 z2 => (h6 i y c z1 z2).keep hf hw e6, ?_, h8, f, hf.2 _ _ h9 e5, h10⟩
  cases sv with
  | none => exact h7
  | some y =>
    obtain ⟨c, z1, z2⟩ := h7
    exact ⟨c, z1, z2.keep hf hw e6⟩
theorem z_sys.keepE {N : w_M} (h : z_sys G M E x bl tx S) (hf : w_fr M N E) : z_sys G N E x bl tx S := by
  obtain ⟨ba, ca, sv, bas, h⟩ := h
  exact ⟨ba, ca, sv, bas, h.keepE hf⟩
/-- its own object written -/
theorem z_sysL.top {N : w_M} {w d fl : Int32} (h : z_sysL G M E x bl ba tx ca sv bas S) (hd : ∀ e, M.get (w_ad G 0) ≠ some e) (hf : w_fr M N (fun q => q = x)) (hx : N.get x = some (.inr (0, [.ref ca, .ref bl, va_rf sv, .int w, .int d, .ref tx, .int (nI (z_txt S).length), .int fl]))) : z_sysL G N E x bl ba tx ca sv bas (z_cur S, z_past S, z_sav S, w, d, z_txt S, fl) := by
  obtain ⟨⟨e1, e2, e3, e4, e5, e6⟩, h1, h2, h3, h4, h5, h6, h7, h8, f, h9, h10⟩ := h
  have hw : ∀ q, z_cm E x bl ba tx q → ¬ q = x := fun q z e => z (Or.inl e)
  have hdx : ¬ w_ad G 0 = x := fun q => hd _ (by rw [q]; exact h1)
  have hbl : ¬ bl = x := w_neC h3.choose_spec.1 h1 (by decide)
  have htx : ¬ tx = x := (w_neA h1 h9).symm
  refine ⟨⟨fun q z => Nat.lt_of_lt_of_le (e1 q z) hf.1, e2, e3, e4, e5, e6⟩, hx, h2.keep hf hw hdx, h3.keep2 hf hbl (fun e he q => ?_), h4, h5, fun i y c z1 z2 => (h6 i y c z1 z2).keep hf hw hdx, ?_, h8, f, hf.2 _ _ h9 htx, h10⟩
  · obtain ⟨md, q1, q2, q3⟩ := h3
    rcases q3 with ⟨q3, -⟩ | ⟨g, q3, -⟩
    · exact hdx (by rw [← q3]; exact q)
    · rw [q] at q3
      exact w_neA h1 q3 rfl
  · cases sv with
    | none => exact h7
    | some y =>
      obtain ⟨c, z1, z2⟩ := h7
      exact ⟨c, z1, z2.keep hf hw hdx⟩
theorem z_frX {N : w_M} (h : w_fr M N (fun q => q = x)) (he : ¬ E x) : w_fr M N (fun q => ¬ E q) := h.mono (fun q _ e => by rw [e]; exact he)
theorem sp_keep (h : z_sysL G M E x bl ba tx ca sv bas S) {q : Nat} {rs dt : Int32} (hq : M.get q = some (.inr (7, [.null, .null, .null, .null, .null, .int 0, .int rs, .int dt]))) : w_S l G tX1_keep (7, 1, 6) [.ref x, .ref q] M (w_rA (fun r N => r = M.sz ∧ N.get r = some (.inr (20, [])) ∧ z_sysL G N E x bl ba tx ca sv bas (z_keep S rs dt) ∧ w_fr M N (fun q => ¬ E q))) := by
  have hg := h.2.1
  have hxq : q ≠ x := w_neC hq hg (by decide)
  refine w_start (by decide) (Nat.le_of_ble_eq_true rfl) (fun X => ?_)
  refine wa_locals [(0, _), (1, _)] [0, 1] rfl ?_
  refine wa_lo (fun lo hd => ?_)
  refine wa_aload_n 0 dX1_keep_0 rfl rfl ?_
  refine wa_aload_n 1 dX1_keep_1 rfl rfl ?_
  refine wa_getf dX1_keep_2 gX1_57 hq rfl ?_
  refine wa_putf [_, _, _, _, _, _, _, _] dX1_keep_5 pX1_60 hg (Nat.le_of_ble_eq_true rfl) rfl rfl rfl ?_
  refine wa_aload_n 0 dX1_keep_8 rfl rfl ?_
  refine wa_aload_n 1 dX1_keep_9 rfl rfl ?_
  refine wa_getf dX1_keep_10 gX1_61 (w_sne hq hxq) rfl ?_
  refine wa_putf [_, _, _, _, _, _, _, _] dX1_keep_13 pX1_64 (w_set_self hg) (Nat.le_of_ble_eq_true rfl) rfl rfl rfl ?_
  rw [w_set_set]
  refine wa_make0 ["java/lang/RuntimeException", "java/lang/Exception"] dX1_keep_16 dX1_keep_19 dX1_keep_20 x_uoe (Nat.le_of_ble_eq_true rfl) (Nat.le_of_ble_eq_true rfl) (by decide) (by decide) (Nat.le_of_ble_eq_true rfl) ?_
  refine wa_aret (FieldType.object "java/lang/UnsupportedOperationException") dX1_keep_23 rfl rfl (Nat.le_of_ble_eq_true rfl) (Nat.le_of_ble_eq_true rfl) ?_
  refine ⟨_, rfl, rfl, w_push_self, ?_, (z_frX w_fr_me h.1.2.1).push⟩
  exact (h.top hd (w_fr_me) (w_set_self hg)).keepE (w_fr.rf.push)
/-- a core that a call has made or changed is committed -/
theorem z_sysL.commit {M0 : w_M} (h : z_sysL G M0 E x bl ba tx ca sv bas S) (h0 : w_ad G 0 < M0.sz) {N : w_M} {a : Nat} {c : z_C} (hc : z_core G N (fun q => z_cm E x bl ba tx q ∨ M0.sz ≤ q) a c) : z_core G N (z_cm E x bl ba tx) a c := by
  refine hc.mono (fun q _ z => z.elim id (fun hq => ?_))
  obtain ⟨⟨e1, e2, e3, e4, e5, e6⟩, h1, h2, h3, h4, h5, h6, h7, h8, f, h9, h10⟩ := h
  rintro (rfl | rfl | rfl | rfl | z)
  · have := w_lt h1; omega
  · have := h3.lt.1; omega
  · rcases h3.lt.2 with z | z
    · omega
    · omega
  · have := w_lt h9; omega
  · have := e1 q z; omega
theorem z_basEl (h : z_sysL G M E x bl ba tx ca sv bas S) : ∀ y ∈ bas, w_el M y ∧ y ≠ bl := by
  intro y hy
  obtain ⟨i, hi, e⟩ := List.mem_iff_getElem.mp hy
  have hl : bas.length = (z_past S).length := h.2.2.2.2.1
  obtain ⟨fs, h1, -⟩ := (h.2.2.2.2.2.2.1 i y _ (by rw [← e]; exact List.getElem?_eq_getElem hi) (List.getElem?_eq_getElem (show i < (z_past S).length by omega))).lt
  exact ⟨⟨1, _, _, _, _, h1, rfl, by decide +kernel⟩, w_neC h1 h.2.2.2.1.choose_spec.1 (by decide)⟩
theorem z_sysL.listK {N : w_M} {ba' : Nat} (h : z_sysL G M E x bl ba tx ca sv bas S) (hd : ∀ e, M.get (w_ad G 0) ≠ some e) (hf : w_fr M N (fun q => q = bl ∨ q = ba)) (hba : ba' = ba ∨ ba' = M.sz) {y : Nat} {c : z_C} (z : z_core G M (z_cm E x bl ba tx) y c) : z_core G N (z_cm E x bl ba' tx) y c := by
  have z1 : z_core G M (fun q => z_cm E x bl ba tx q ∧ q < M.sz) y c := z.mono (fun q hq w => ⟨w, hq⟩)
  have hf2 : w_fr M N (fun q => (q = bl ∨ q = ba) ∧ q ≠ w_ad G 0) := ⟨hf.1, fun q e hq hw => hf.2 q e hq (fun w => hw ⟨w, fun w2 => hd _ (by rw [← w2]; exact hq)⟩)⟩
  have z2 := z1.keep hf2 (fun q w w2 => w.1 (w2.1.elim (fun e => Or.inr (Or.inl e)) (fun e => Or.inr (Or.inr (Or.inl e))))) (fun w => w.2 rfl)
  refine z2.mono (fun q _ w => ?_)
  rintro (w1 | w1 | w1 | w1 | w1)
  · exact w.1 (Or.inl w1)
  · exact w.1 (Or.inr (Or.inl w1))
  · rcases hba with e | e
    · exact w.1 (Or.inr (Or.inr (Or.inl (w1.trans e))))
    · have := w.2; omega
  · exact w.1 (Or.inr (Or.inr (Or.inr (Or.inl w1))))
  · exact w.1 (Or.inr (Or.inr (Or.inr (Or.inr w1))))
/-- the list of the cores before written -/
theorem z_sysL.list {N : w_M} {ba' : Nat} {bas' : List Nat} {ps : List z_C} (h : z_sysL G M E x bl ba tx ca sv bas S) (hd : ∀ e, M.get (w_ad G 0) ≠ some e) (hf : w_fr M N (fun q => q = bl ∨ q = ba)) (hal : w_AL G N bl ba' bas') (hba : ba' = ba ∨ ba' = M.sz) (hl : bas'.length = ps.length) (h8 : ps.length ≤ 8)
    (hc : ∀ (i y : Nat) (c : z_C), bas'[i]? = some y → ps[i]? = some c → z_core G M (z_cm E x bl ba tx) y c) : z_sysL G N E x bl ba' tx ca sv bas' (z_cur S, ps, z_sav S, z_why S, z_det S, z_txt S, z_flt S) := by
  obtain ⟨⟨e1, e2, e3, e4, e5, e6⟩, h1, h2, h3, h4, h5, h6, h7, h8', f, h9, h10⟩ := h
  have kp : ∀ (y : Nat) (c : z_C), z_core G M (z_cm E x bl ba tx) y c → z_core G N (z_cm E x bl ba' tx) y c := fun y c z => by
    have hd2 : ¬ (w_ad G 0 = bl ∨ w_ad G 0 = ba) ∨ (w_ad G 0 = ba) := by
      by_cases q : w_ad G 0 = ba
      · exact Or.inr q
      · exact Or.inl (fun w => w.elim (fun w => hd _ (by rw [w]; exact h3.choose_spec.1)) q)
    have z0 : z_core G N (z_cm E x bl ba tx) y c := by
      have hf2 : w_fr M N (fun q => (q = bl ∨ q = ba) ∧ q ≠ w_ad G 0) := ⟨hf.1, fun q e hq hw => hf.2 q e hq (fun w => hw ⟨w, fun w2 => hd _ (by rw [← w2]; exact hq)⟩)⟩
      exact z.keep hf2 (fun q w w2 => w (w2.1.elim (fun e => Or.inr (Or.inl e)) (fun e => Or.inr (Or.inr (Or.inl e))))) (fun w => w.2 rfl)
    have z1 : z_core G M (fun q => z_cm E x bl ba tx q ∧ q < M.sz) y c := z.mono (fun q hq w => ⟨w, hq⟩)
    have hf2 : w_fr M N (fun q => (q = bl ∨ q = ba) ∧ q ≠ w_ad G 0) := ⟨hf.1, fun q e hq hw => hf.2 q e hq (fun w => hw ⟨w, fun w2 => hd _ (by rw [← w2]; exact hq)⟩)⟩
    have z2 := z1.keep hf2 (fun q w w2 => w.1 (w2.1.elim (fun e => Or.inr (Or.inl e)) (fun e => Or.inr (Or.inr (Or.inl e))))) (fun w => w.2 rfl)
    refine z2.mono (fun q _ w => ?_)
    rintro (w1 | w1 | w1 | w1 | w1)
    · exact w.1 (Or.inl w1)
    · exact w.1 (Or.inr (Or.inl w1))
    · rcases hba with e | e
      · exact w.1 (Or.inr (Or.inr (Or.inl (w1.trans e))))
      · have := w.2; omega
    · exact w.1 (Or.inr (Or.inr (Or.inr (Or.inl w1))))
    · exact w.1 (Or.inr (Or.inr (Or.inr (Or.inr w1))))
  have arr : ∀ (y : Nat) (e : w_E), M.get y = some e → (∀ gs, e ≠ .inr (11, gs)) → (∀ g, e ≠ .inl (.object "java/lang/Object", 10, .inr (.inr (.inr (.inr g))))) → ¬ (y = bl ∨ y = ba) := fun y e he n1 n2 w => by
    obtain ⟨md, q1, q2, q3⟩ := h3
    rcases w with rfl | rfl
    · exact n1 _ (Option.some.inj (he.symm.trans q1))
    · rcases q3 with ⟨q3, -⟩ | ⟨g, q3, -⟩
      · exact hd _ (by rw [← q3]; exact he)
      · exact n2 _ (Option.some.inj (he.symm.trans q3))
  refine ⟨⟨fun q z => Nat.lt_of_lt_of_le (e1 q z) hf.1, e2, e3, ?_, e5, e6⟩, hf.2 _ _ h1 (arr _ _ h1 (fun _ q => by cases q) (fun _ q => by cases q)), kp _ _ h2, hal, hl, h8, fun i y c z1 z2 => kp _ _ (hc i y c z1 z2), ?_, h8', f, hf.2 _ _ h9 (arr _ _ h9 (fun _ q => by cases q) (fun _ q => by cases q)), h10⟩
  · rcases hba with e | e
    · rw [e]; exact e4
    · intro w; have := e1 _ w; omega
  · cases sv with
    | none => exact h7
    | some y =>
      obtain ⟨c, z1, z2⟩ := h7
      exact ⟨c, z1, kp _ _ z2⟩
/-- the core replaced -/
theorem z_sysL.cur {N : w_M} {cn : Nat} {c' : z_C} (h : z_sysL G M E x bl ba tx ca sv bas S) (hd : ∀ e, M.get (w_ad G 0) ≠ some e) (hf : w_fr M N (fun q => q = x)) (hx : N.get x = some (.inr (0, [.ref cn, .ref bl, va_rf sv, .int (z_why S), .int (z_det S), .ref tx, .int (nI (z_txt S).length), .int (z_flt S)]))) (hc : z_core G M (z_cm E x bl ba tx) cn c') : z_sysL G N E x bl ba tx cn sv bas (c', z_past S, z_sav S, z_why S, z_det S, z_txt S, z_flt S) := by
  have hdx : ¬ w_ad G 0 = x := fun q => hd _ (by rw [q]; exact h.2.1)
  obtain ⟨⟨e1, e2, e3, e4, e5, e6⟩, h1, h2, h3, h4, h5, h6, h7, h8, f, h9, h10⟩ := h
  have hw : ∀ q, z_cm E x bl ba tx q → ¬ q = x := fun q z e => z (Or.inl e)
  have hbl : ¬ bl = x := w_neC h3.choose_spec.1 h1 (by decide)
  have htx : ¬ tx = x := (w_neA h1 h9).symm
  refine ⟨⟨fun q z => Nat.lt_of_lt_of_le (e1 q z) hf.1, e2, e3, e4, e5, e6⟩, hx, hc.keep hf hw hdx, h3.keep2 hf hbl (fun e he q => ?_), h4, h5, fun i y c z1 z2 => (h6 i y c z1 z2).keep hf hw hdx, ?_, h8, f, hf.2 _ _ h9 htx, h10⟩
  · obtain ⟨md, q1, q2, q3⟩ := h3
    rcases q3 with ⟨q3, -⟩ | ⟨g, q3, -⟩
    · exact hdx (by rw [← q3]; exact q)
    · rw [q] at q3
      exact w_neA h1 q3 rfl
  · cases sv with
    | none => exact h7
    | some y =>
      obtain ⟨c, z1, z2⟩ := h7
      exact ⟨c, z1, z2.keep hf hw hdx⟩
end SX
