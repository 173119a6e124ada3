/-! ===== the accounts with fractions ===== -/
set_option maxRecDepth 100000
theorem z_f32 : ∀ a : Fin 7, ∀ b : Fin 7, b.val ≠ 0 → (FP.fdiv (FP.i2f (nI a.val)) (FP.i2f (nI b.val))) &&& 0x7fffffff ≤ 0x7f800000 := by decide +kernel
theorem z_f64 : ∀ a : Fin 7, ∀ b : Fin 7, b.val ≠ 0 → (FP.f2d (FP.fdiv (FP.i2f (nI a.val)) (FP.i2f (nI b.val)))) &&& 0x7fffffffffffffff ≤ 0x7ff0000000000000 := by decide +kernel
theorem z_sum01 {α : Type} {p : α → Prop} [DecidablePred p] : ∀ (xs : List α) (n : Nat), ∃ m, z_sum (fun y => if p y then 1 else 0) xs (nI n) = nI m ∧ n ≤ m ∧ m ≤ n + xs.length := by
  intro xs
  induction xs with
  | nil => intro n; exact ⟨n, rfl, Nat.le_refl _, Nat.le_refl _⟩
  | cons y ys ih =>
    intro n
    by_cases h : p y
    · obtain ⟨m, h1, h2, h3⟩ := ih (n + 1)
      refine ⟨m, ?_, by omega, by simp only [List.length_cons]; omega⟩
      show z_sum _ ys (nI n + if p y then 1 else 0) = nI m
      rw [if_pos h, nI_1, h1]
    · obtain ⟨m, h1, h2, h3⟩ := ih n
      refine ⟨m, ?_, by omega, by simp only [List.length_cons]; omega⟩
      show z_sum _ ys (nI n + if p y then 1 else 0) = nI m
      rw [if_neg h, Int32.add_zero, h1]
def z_ldN (c : z_C) : Int32 := z_sum (fun r => if z_loaded c r = true then 1 else 0) (z_robs c) 0
def z_loadedX (S : z_S) : (Value × z_S) ⊕ String := if (z_robs (z_cur S)).length = 0 then .inr "java/lang/ArithmeticException" else .inl (.float (FP.fdiv (FP.i2f (z_ldN (z_cur S))) (FP.i2f (nI (z_robs (z_cur S)).length))), S)
section FL
variable {l : Launch} {G : w_G} {M : w_M} {E : Nat → Prop} {x bl ba tx ca : Nat} {sv : Option Nat} {bas : List Nat} {S : z_S} {P : Nat → Prop} {kd rl ol sg ra oa : Nat} {ras oas : List Nat}
theorem sp_X1_loaded (hS : z_sys G M E x bl tx S) (hs : z_small (z_cur S)) : w_S l G tX1_loaded (9, 1, 6) [.ref x] M (z_anQ G E x bl tx M S (z_loadedX S)) := by
  have hS0 := hS
  obtain ⟨ba, ca, sv, bas, h⟩ := hS
  have hg := h.2.1
  obtain ⟨kd, rl, ol, sg, ra, oa, ras, oas, hL⟩ := h.2.2.1
  have hgc := hL.2.1
  obtain ⟨n1, n2, n3⟩ := z_idxL hs
  have hsz := hs.size
  have h6 : (z_robs (z_cur S)).length ≤ 6 := hs.2.2.2.2.1
  have hlen : ras.length = (z_robs (z_cur S)).length := hL.2.2.2.2.2.2.1
  have hal := hL.2.2.2.2.1
  have hgl := hal.choose_spec.1
  by_cases hz : (z_robs (z_cur S)).length = 0
  · have hr : z_loadedX S = .inr "java/lang/ArithmeticException" := if_pos hz
    have hsz0 := sp_size (l := l) hal
    rw [hlen, hz, show nI 0 = 0 from rfl] at hsz0
    refine w_start (by decide) (Nat.le_of_ble_eq_true rfl) (fun X => ?_)
    refine wa_locals [(0, _)] [0] rfl ?_
    refine wa_aload_n 0 dX1_loaded_0 rfl rfl ?_
    refine wa_getf dX1_loaded_1 gX1_14 hg rfl ?_
    refine wa_getf dX1_loaded_4 gX1_227 hgc rfl ?_
    refine wc_isI (wr_V dX1_loaded_7 mX1_68 hsz0 hgl rfl rfl rfl (Nat.le_of_ble_eq_true rfl)) ?_
    refine wc_isx (wr_S dX1_loaded_10 mX1_346 sp_requireSomeT rfl rfl rfl (Nat.le_of_ble_eq_true rfl)) ?_
    exact wx_out (fun _ h => by cases h) (Nat.le_of_ble_eq_true rfl) (Nat.le_of_ble_eq_true rfl) (z_anN hS0 hr w_fr.rf.push)
  · have hr : z_loadedX S = .inl (.float (FP.fdiv (FP.i2f (z_ldN (z_cur S))) (FP.i2f (nI (z_robs (z_cur S)).length))), S) := if_neg hz
    obtain ⟨m, hm1, -, hm3⟩ := z_sum01 (p := fun r => z_loaded (z_cur S) r = true) (z_robs (z_cur S)) 0
    have hm1 : z_ldN (z_cur S) = nI m := hm1
    have hn32 : vf_n32 (FP.fdiv (FP.i2f (z_ldN (z_cur S))) (FP.i2f (nI (z_robs (z_cur S)).length))) := by
      rw [hm1]
      exact z_f32 ⟨m, by omega⟩ ⟨(z_robs (z_cur S)).length, by omega⟩ hz
    have hne : ¬ nI ras.length = 0 := fun q => hz (by rw [← hlen]; exact (nI_eq (by omega) (by decide)).mp q)
    refine w_start (by decide) (Nat.le_of_ble_eq_true rfl) (fun X => ?_)
    refine wa_locals [(0, _)] [0] rfl ?_
    have LP : ∀ (n k : Nat) (v : Int32), k + n = (z_robs (z_cur S)).length → z_sum (fun r => if z_loaded (z_cur S) r = true then 1 else 0) ((z_robs (z_cur S)).drop k) v = z_ldN (z_cur S) → w_A l G tX1_loaded (9, 1, 6) X 0 0 M 17 [(2, .int (nI k)), (1, .int v), (0, .ref x)] [] (z_anQ G E x bl tx M S (z_loadedX S)) := by
      intro n
      induction n with
      | zero =>
        intro k v hn e
        rw [z_sum_end (by omega)] at e
        refine wa_iload_n 0 dX1_loaded_17 rfl rfl ?_
        refine wa_aload_n 2 dX1_loaded_18 rfl rfl ?_
        refine wa_getf dX1_loaded_19 gX1_14 hg rfl ?_
        refine wa_getf dX1_loaded_22 gX1_227 hgc rfl ?_
        refine wc_isI (wr_V dX1_loaded_25 mX1_68 (sp_size hal) hgl rfl rfl rfl (Nat.le_of_ble_eq_true rfl)) ?_
        refine wa_icmp_ge 56 dX1_loaded_28 rfl (fun c28 => ?_) (fun c28 => absurd (nI_le (by omega) (by omega)) c28)
        rw [e]
        refine wa_iload_n 1 dX1_loaded_56 rfl rfl ?_
        refine wa_i2f dX1_loaded_57 ?_
        refine wa_aload_n 2 dX1_loaded_58 rfl rfl ?_
        refine wa_getf dX1_loaded_59 gX1_14 hg rfl ?_
        refine wa_getf dX1_loaded_62 gX1_227 hgc rfl ?_
        refine wc_isI (wr_V dX1_loaded_65 mX1_68 (sp_size hal) hgl rfl rfl rfl (Nat.le_of_ble_eq_true rfl)) ?_
        rw [hlen]
        refine wa_i2f dX1_loaded_68 ?_
        refine wa_fdiv dX1_loaded_69 (by assumption) ?_
        refine wa_fret dX1_loaded_70 rfl (Nat.le_of_ble_eq_true rfl) (Nat.le_of_ble_eq_true rfl) ?_
        exact z_anY hS0 hr w_fr.rf
      | succ n ih =>
        intro k v hn e
        obtain ⟨r, hrr⟩ : ∃ r, (z_robs (z_cur S))[k]? = some r := ⟨_, List.getElem?_eq_getElem (by omega)⟩
        rw [z_sum_at hrr] at e
        refine wa_iload_n 0 dX1_loaded_17 rfl rfl ?_
        refine wa_aload_n 2 dX1_loaded_18 rfl rfl ?_
        refine wa_getf dX1_loaded_19 gX1_14 hg rfl ?_
        refine wa_getf dX1_loaded_22 gX1_227 hgc rfl ?_
        refine wc_isI (wr_V dX1_loaded_25 mX1_68 (sp_size hal) hgl rfl rfl rfl (Nat.le_of_ble_eq_true rfl)) ?_
        refine wa_icmp_ge 56 dX1_loaded_28 rfl (fun c28 => absurd c28 (nI_lt_not (by omega) (by omega))) (fun c28 => ?_)
        refine wa_iload_n 1 dX1_loaded_31 rfl rfl ?_
        refine wa_aload_n 2 dX1_loaded_32 rfl rfl ?_
        refine wa_getf dX1_loaded_33 gX1_14 hg rfl ?_
        refine wa_iload_n 0 dX1_loaded_36 rfl rfl ?_
        refine wc_isI (wr_V dX1_loaded_37 mX1_257 (sp_isLoaded hL hs hrr) hgc rfl rfl rfl (Nat.le_of_ble_eq_true rfl)) ?_
        refine wa_if_eq 47 dX1_loaded_40 rfl (fun c40 => ?_) (fun c40 => ?_)
        ·
          refine wa_iconst (0) dX1_loaded_47 (by decide) ?_
          refine wa_iadd dX1_loaded_48 ?_
          refine wa_istore_n [(1, _), (2, _), (0, _)] dX1_loaded_49 rfl (Nat.le_of_ble_eq_true rfl) rfl ?_
          refine wa_iinc 1 [(2, _), (1, _), (0, _)] dX1_loaded_50 rfl (w_inc k) (Nat.le_of_ble_eq_true rfl) rfl ?_
          refine wa_goto 17 dX1_loaded_53 rfl ?_
          refine wa_locals [(2, _), (1, _), (0, _)] [0, 1, 2] rfl ?_
          exact ih (k + 1) _ (by omega) (by rw [← e]; congr 2; exact (if_neg (z_n c40)).symm)
        ·
          refine wa_iconst (1) dX1_loaded_43 (by decide) ?_
          refine wa_goto 48 dX1_loaded_44 rfl ?_
          refine wa_iadd dX1_loaded_48 ?_
          refine wa_istore_n [(1, _), (2, _), (0, _)] dX1_loaded_49 rfl (Nat.le_of_ble_eq_true rfl) rfl ?_
          refine wa_iinc 1 [(2, _), (1, _), (0, _)] dX1_loaded_50 rfl (w_inc k) (Nat.le_of_ble_eq_true rfl) rfl ?_
          refine wa_goto 17 dX1_loaded_53 rfl ?_
          refine wa_locals [(2, _), (1, _), (0, _)] [0, 1, 2] rfl ?_
          exact ih (k + 1) _ (by omega) (by rw [← e]; congr 2; exact (if_pos (z_y c40)).symm)
    refine wa_aload_n 0 dX1_loaded_0 rfl rfl ?_
    refine wa_getf dX1_loaded_1 gX1_14 hg rfl ?_
    refine wa_getf dX1_loaded_4 gX1_227 hgc rfl ?_
    refine wc_isI (wr_V dX1_loaded_7 mX1_68 (sp_size hal) hgl rfl rfl rfl (Nat.le_of_ble_eq_true rfl)) ?_
    refine wc_isV (wr_S dX1_loaded_10 mX1_346 (sp_requireSomeN hne) rfl rfl rfl (Nat.le_of_ble_eq_true rfl)) ?_
    refine wa_iconst (0) dX1_loaded_13 (by decide) ?_
    refine wa_istore_n [(1, _), (0, _)] dX1_loaded_14 rfl (Nat.le_of_ble_eq_true rfl) rfl ?_
    refine wa_iconst (0) dX1_loaded_15 (by decide) ?_
    refine wa_istore_n [(2, _), (1, _), (0, _)] dX1_loaded_16 rfl (Nat.le_of_ble_eq_true rfl) rfl ?_
    refine wa_locals [(2, _), (1, _), (0, _)] [0, 1, 2] rfl ?_
    exact LP _ 0 0 (Nat.zero_add _) rfl
/-- a datum as rounding gives it: no NaN -/
def z_nice : FP.Core.Datum → Prop
  | .nan => False
  | .inf _ => True
  | .fin _ c q => c < 2 ^ 53 ∧ -1074 ≤ q ∧ q ≤ 971
theorem z_niceB {s : Bool} {c : Nat} {q : Int} (hc : c < 2 ^ 53) (hq : -1074 ≤ q) : z_nice (FP.Core.bound FP.Core.b64 s c q) := by
  unfold FP.Core.bound
  have e : FP.Core.b64.qmax = 971 := by decide
  rw [e]
  split
  · rename_i h; exact ⟨hc, hq, h⟩
  · trivial
theorem z_niceR {s : Bool} {num den : Nat} {e : Int} : z_nice (FP.Core.roundRatio FP.Core.b64 s num den e) := by
  have eq : FP.Core.b64.qmin = -1074 := by decide
  unfold FP.Core.roundRatio
  split
  · rw [eq]; exact ⟨by decide, by decide, by decide⟩
  · have hq : -1074 ≤ FP.Core.quantum FP.Core.b64 num den e := by
      unfold FP.Core.quantum
      rw [eq]
      exact Int.le_max_left _ _
    unfold FP.Core.roundAt FP.Core.settle
    split
    · rename_i h; exact z_niceB h hq
    · exact z_niceB (by decide) (by omega)
theorem z_niceE {d : FP.Core.Datum} (h : z_nice d) : FP.Core.encode FP.Core.b64 d < 2 ^ 64 ∧ FP.Core.encode FP.Core.b64 d % 2 ^ 63 ≤ 2047 * 2 ^ 52 := by
  have et : FP.Core.b64.tails = 2 ^ 52 := by decide
  have ee : FP.Core.b64.exps = 2048 := by decide
  have eq : FP.Core.b64.qmin = -1074 := by decide
  cases d with
  | nan => exact h.elim
  | inf s =>
    unfold FP.Core.encode FP.Core.assemble
    rw [et, ee]
    cases s <;> decide
  | fin s c q =>
    obtain ⟨h1, h2, h3⟩ := h
    unfold FP.Core.encode FP.Core.assemble
    simp only [et, ee, eq]
    cases s
    · simp only [Bool.toNat_false]
      split <;> omega
    · simp only [Bool.toNat_true]
      split <;> omega
theorem z_niceD {d : FP.Core.Datum} (h : z_nice d) : FP.Core.decode FP.Core.b64 (FP.Core.encode FP.Core.b64 d) ≠ .nan := by
  have et : FP.Core.b64.tails = 2 ^ 52 := by decide
  have ee : FP.Core.b64.exps = 2048 := by decide
  have eq : FP.Core.b64.qmin = -1074 := by decide
  unfold FP.Core.decode
  split
  · rename_i h1
    split
    · exact fun z => by cases z
    · rename_i h2
      exfalso
      unfold FP.Core.fieldE at h1
      unfold FP.Core.fieldT at h2
      rw [et, ee] at h1
      rw [et] at h2
      cases d with
      | nan => exact h.elim
      | inf s =>
        unfold FP.Core.encode FP.Core.assemble at h2
        rw [et, ee] at h2
        cases s <;> exact h2 (by decide)
      | fin s c q =>
        obtain ⟨h3, h4, h5⟩ := h
        unfold FP.Core.encode FP.Core.assemble at h1
        simp only [et, ee, eq] at h1
        cases s
        · simp only [Bool.toNat_false] at h1
          split at h1 <;> omega
        · simp only [Bool.toNat_true] at h1
          split at h1 <;> omega
  · split
    · exact fun z => by cases z
    · exact fun z => by cases z
theorem z_fin10 : ∀ b : Fin 11, b.val ≠ 0 → (match FP.Core.decode FP.Core.b64 (FP.i2d (nI b.val)).toNat with | .fin _ d _ => decide (d ≠ 0) | _ => false) = true := by decide +kernel
theorem z_d64 (a : Int32) {b : Nat} (hb : b ≠ 0) (hb2 : b ≤ 10) : vf_n64 (FP.ddiv (FP.i2d a) (FP.i2d (nI b))) := by
  have h1 := z_fin10 ⟨b, by omega⟩ hb
  have ea : (FP.i2d a).toNat = FP.Core.encode FP.Core.b64 (FP.Core.round FP.Core.b64 (FP.Core.ofInt a.toInt)) := by
    show (UInt64.ofNat (FP.Core.encode FP.Core.b64 (FP.Core.round FP.Core.b64 (FP.Core.ofInt a.toInt)))).toNat = _
    rw [UInt64.toNat_ofNat']
    exact Nat.mod_eq_of_lt (z_niceE (z_niceR (s := _) (num := _) (den := 1) (e := 0))).1
  have ha : FP.Core.decode FP.Core.b64 (FP.i2d a).toNat ≠ .nan := by
    rw [ea]
    exact z_niceD z_niceR
  have hn : z_nice (FP.Core.quotient FP.Core.b64 (FP.Core.decode FP.Core.b64 (FP.i2d a).toNat) (FP.Core.decode FP.Core.b64 (FP.i2d (nI b)).toNat)) := by
    cases hB : FP.Core.decode FP.Core.b64 (FP.i2d (nI b)).toNat with
    | nan => simp only [hB] at h1; cases h1
    | inf s => simp only [hB] at h1; cases h1
    | fin t d r =>
      simp only [hB, decide_eq_true_eq] at h1
      cases hA : FP.Core.decode FP.Core.b64 (FP.i2d a).toNat with
      | nan => exact absurd hA ha
      | inf s => trivial
      | fin s c q =>
        show z_nice (if d = 0 then (if c = 0 then .nan else .inf (s != t)) else FP.Core.roundRatio FP.Core.b64 (s != t) c d (q - r))
        rw [if_neg h1]
        exact z_niceR
  obtain ⟨h2, h3⟩ := z_niceE hn
  show (UInt64.ofNat (FP.Core.encode FP.Core.b64 (FP.Core.quotient FP.Core.b64 (FP.Core.decode FP.Core.b64 (FP.i2d a).toNat) (FP.Core.decode FP.Core.b64 (FP.i2d (nI b)).toNat)))) &&& 0x7fffffffffffffff ≤ 0x7ff0000000000000
  rw [UInt64.le_iff_toNat_le, UInt64.toNat_and, UInt64.toNat_ofNat', Nat.mod_eq_of_lt h2, show (0x7fffffffffffffff : UInt64).toNat = 2 ^ 63 - 1 from rfl, Nat.and_two_pow_sub_one_eq_mod]
  exact h3
def z_lateN (c : z_C) : Int32 := z_sum (fun o => if nI (z_state o) = 2 then z_del o - z_due o else 0) (z_ords c) 0
def z_lateX (S : z_S) : (Value × z_S) ⊕ String := if z_inSt (z_cur S) 2 = 0 then .inr "java/lang/ArithmeticException" else .inl (.double (FP.ddiv (FP.i2d (z_lateN (z_cur S))) (FP.i2d (z_inSt (z_cur S) 2))), S)
theorem sp_X1_lateness (hS : z_sys G M E x bl tx S) (hs : z_small (z_cur S)) : w_S l G tX1_lateness (9, 1, 6) [.ref x] M (z_anQ G E x bl tx M S (z_lateX S)) := by
  have hS0 := hS
  obtain ⟨ba, ca, sv, bas, h⟩ := hS
  have hg := h.2.1
  obtain ⟨kd, rl, ol, sg, ra, oa, ras, oas, hL⟩ := h.2.2.1
  have hgc := hL.2.1
  obtain ⟨n1, n2, n3⟩ := z_idxL hs
  have hsz := hs.size
  have h10 : (z_ords (z_cur S)).length ≤ 10 := hs.2.2.2.2.2.1
  have hleo : oas.length = (z_ords (z_cur S)).length := hL.2.2.2.2.2.2.2.1
  have hol := hL.2.2.2.2.2.1
  have hgo := hol.choose_spec.1
  have hin := sp_inState (l := l) h hL hs (st := 2)
  by_cases hz : z_inSt (z_cur S) 2 = 0
  · have hr : z_lateX S = .inr "java/lang/ArithmeticException" := if_pos hz
    have hin : w_S l G tX1_inState (4, 0, 0) [.ref x, .int 2] M (w_is (.inl (some (.int (z_inSt (z_cur S) 2)))) M) := hin
    rw [hz] at hin
    refine w_start (by decide) (Nat.le_of_ble_eq_true rfl) (fun X => ?_)
    refine wa_locals [(0, _)] [0] rfl ?_
    refine wa_aload_n 0 dX1_lateness_0 rfl rfl ?_
    refine wa_iconst (2) dX1_lateness_1 (by decide) ?_
    refine wc_isI (wr_V dX1_lateness_2 mX1_349 hin hg rfl rfl rfl (Nat.le_of_ble_eq_true rfl)) ?_
    refine wa_istore_n [(1, _), (0, _)] dX1_lateness_5 rfl (Nat.le_of_ble_eq_true rfl) rfl ?_
    refine wa_iload_n 0 dX1_lateness_6 rfl rfl ?_
    refine wc_isx (wr_S dX1_lateness_7 mX1_346 sp_requireSomeT rfl rfl rfl (Nat.le_of_ble_eq_true rfl)) ?_
    exact wx_out (fun _ h => by cases h) (Nat.le_of_ble_eq_true rfl) (Nat.le_of_ble_eq_true rfl) (z_anN hS0 hr w_fr.rf.push)
  · have hr : z_lateX S = .inl (.double (FP.ddiv (FP.i2d (z_lateN (z_cur S))) (FP.i2d (z_inSt (z_cur S) 2))), S) := if_neg hz
    have hn64 : vf_n64 (FP.ddiv (FP.i2d (z_lateN (z_cur S))) (FP.i2d (z_inSt (z_cur S) 2))) := by
      obtain ⟨m, hm1, -, hm3⟩ := z_sum01 (p := fun o => nI (z_state o) = 2) (z_ords (z_cur S)) 0
      have hm1 : z_inSt (z_cur S) 2 = nI m := hm1
      rw [hm1] at hz ⊢
      exact z_d64 _ (fun q => hz (by rw [q]; rfl)) (by omega)
    have hin : w_S l G tX1_inState (4, 0, 0) [.ref x, .int 2] M (w_is (.inl (some (.int (z_inSt (z_cur S) 2)))) M) := hin
    refine w_start (by decide) (Nat.le_of_ble_eq_true rfl) (fun X => ?_)
    refine wa_locals [(0, _)] [0] rfl ?_
    have LP : ∀ (n k : Nat) (v : Int32), k + n = (z_ords (z_cur S)).length → z_sum (fun o => if nI (z_state o) = 2 then z_del o - z_due o else 0) ((z_ords (z_cur S)).drop k) v = z_lateN (z_cur S) → w_A l G tX1_lateness (9, 1, 6) X 0 0 M 14 [(3, .int (nI k)), (2, .int v), (1, .int (z_inSt (z_cur S) 2)), (0, .ref x)] [] (z_anQ G E x bl tx M S (z_lateX S)) := by
      intro n
      induction n with
      | zero =>
        intro k v hn e
        rw [z_sum_end (by omega)] at e
        refine wa_iload_n 0 dX1_lateness_14 rfl rfl ?_
        refine wa_aload_n 3 dX1_lateness_15 rfl rfl ?_
        refine wa_getf dX1_lateness_16 gX1_14 hg rfl ?_
        refine wa_getf dX1_lateness_19 gX1_283 hgc rfl ?_
        refine wc_isI (wr_V dX1_lateness_22 mX1_68 (sp_size hol) hgo rfl rfl rfl (Nat.le_of_ble_eq_true rfl)) ?_
        refine wa_icmp_ge 77 dX1_lateness_25 rfl (fun c25 => ?_) (fun c25 => absurd (nI_le (by omega) (by omega)) c25)
        rw [e]
        refine wa_iload_n 1 dX1_lateness_77 rfl rfl ?_
        refine wa_i2d dX1_lateness_78 ?_
        refine wa_iload_n 2 dX1_lateness_79 rfl rfl ?_
        refine wa_i2d dX1_lateness_80 ?_
        refine wa_ddiv dX1_lateness_81 (by assumption) ?_
        refine wa_dret dX1_lateness_82 rfl (Nat.le_of_ble_eq_true rfl) (Nat.le_of_ble_eq_true rfl) ?_
        exact z_anY hS0 hr w_fr.rf
      | succ n ih =>
        intro k v hn e
        obtain ⟨o, hrr⟩ : ∃ o, (z_ords (z_cur S))[k]? = some o := ⟨_, List.getElem?_eq_getElem (by omega)⟩
        obtain ⟨y, hy, hor⟩ := z_ordAt hL hrr
        obtain ⟨la, hp1, hp2, hob, f, hla, hlf⟩ := id hor
        rw [z_sum_at hrr] at e
        refine wa_iload_n 0 dX1_lateness_14 rfl rfl ?_
        refine wa_aload_n 3 dX1_lateness_15 rfl rfl ?_
        refine wa_getf dX1_lateness_16 gX1_14 hg rfl ?_
        refine wa_getf dX1_lateness_19 gX1_283 hgc rfl ?_
        refine wc_isI (wr_V dX1_lateness_22 mX1_68 (sp_size hol) hgo rfl rfl rfl (Nat.le_of_ble_eq_true rfl)) ?_
        refine wa_icmp_ge 77 dX1_lateness_25 rfl (fun c25 => absurd c25 (nI_lt_not (by omega) (by omega))) (fun c25 => ?_)
        refine wa_aload_n 3 dX1_lateness_28 rfl rfl ?_
        refine wa_getf dX1_lateness_29 gX1_14 hg rfl ?_
        refine wa_getf dX1_lateness_32 gX1_283 hgc rfl ?_
        refine wa_iload_n 0 dX1_lateness_35 rfl rfl ?_
        refine wc_isA (wr_V dX1_lateness_36 mX1_230 (sp_get hol hy) hgo rfl rfl rfl (Nat.le_of_ble_eq_true rfl)) ?_
        refine wa_castS dX1_lateness_39 q1548 hob rfl ?_
        refine wa_astore [(4, _), (3, _), (2, _), (1, _), (0, _)] dX1_lateness_42 (Nat.le_of_ble_eq_true rfl) rfl ?_
        refine wa_iload_n 2 dX1_lateness_44 rfl rfl ?_
        refine wa_aload 0 dX1_lateness_45 rfl ?_
        refine wa_getf dX1_lateness_47 gX1_301 hob rfl ?_
        refine wa_iconst (2) dX1_lateness_50 (by decide) ?_
        refine wa_icmp_ne 68 dX1_lateness_51 rfl (fun c51 => ?_) (fun c51 => ?_)
        ·
          refine wa_iconst (0) dX1_lateness_68 (by decide) ?_
          refine wa_iadd dX1_lateness_69 ?_
          refine wa_istore_n [(2, _), (4, _), (3, _), (1, _), (0, _)] dX1_lateness_70 rfl (Nat.le_of_ble_eq_true rfl) rfl ?_
          refine wa_iinc 2 [(3, _), (2, _), (4, _), (1, _), (0, _)] dX1_lateness_71 rfl (w_inc k) (Nat.le_of_ble_eq_true rfl) rfl ?_
          refine wa_goto 14 dX1_lateness_74 rfl ?_
          refine wa_locals [(3, _), (2, _), (1, _), (0, _)] [0, 1, 3, 4] rfl ?_
          exact ih (k + 1) _ (by omega) (by rw [← e]; congr 2; exact (if_neg c51).symm)
        ·
          refine wa_aload 0 dX1_lateness_54 rfl ?_
          refine wa_getf dX1_lateness_56 gX1_307 hob rfl ?_
          refine wa_aload 0 dX1_lateness_59 rfl ?_
          refine wa_getf dX1_lateness_61 gX1_292 hob rfl ?_
          refine wa_isub dX1_lateness_64 ?_
          refine wa_goto 69 dX1_lateness_65 rfl ?_
          refine wa_iadd dX1_lateness_69 ?_
          refine wa_istore_n [(2, _), (4, _), (3, _), (1, _), (0, _)] dX1_lateness_70 rfl (Nat.le_of_ble_eq_true rfl) rfl ?_
          refine wa_iinc 2 [(3, _), (2, _), (4, _), (1, _), (0, _)] dX1_lateness_71 rfl (w_inc k) (Nat.le_of_ble_eq_true rfl) rfl ?_
          refine wa_goto 14 dX1_lateness_74 rfl ?_
          refine wa_locals [(3, _), (2, _), (1, _), (0, _)] [0, 1, 3, 4] rfl ?_
          exact ih (k + 1) _ (by omega) (by rw [← e]; congr 2; exact (if_pos c51).symm)
    refine wa_aload_n 0 dX1_lateness_0 rfl rfl ?_
    refine wa_iconst (2) dX1_lateness_1 (by decide) ?_
    refine wc_isI (wr_V dX1_lateness_2 mX1_349 hin hg rfl rfl rfl (Nat.le_of_ble_eq_true rfl)) ?_
    refine wa_istore_n [(1, _), (0, _)] dX1_lateness_5 rfl (Nat.le_of_ble_eq_true rfl) rfl ?_
    refine wa_iload_n 0 dX1_lateness_6 rfl rfl ?_
    refine wc_isV (wr_S dX1_lateness_7 mX1_346 (sp_requireSomeN hz) rfl rfl rfl (Nat.le_of_ble_eq_true rfl)) ?_
    refine wa_iconst (0) dX1_lateness_10 (by decide) ?_
    refine wa_istore_n [(2, _), (1, _), (0, _)] dX1_lateness_11 rfl (Nat.le_of_ble_eq_true rfl) rfl ?_
    refine wa_iconst (0) dX1_lateness_12 (by decide) ?_
    refine wa_istore_n [(3, _), (2, _), (1, _), (0, _)] dX1_lateness_13 rfl (Nat.le_of_ble_eq_true rfl) rfl ?_
    refine wa_locals [(3, _), (2, _), (1, _), (0, _)] [0, 1, 2, 3] rfl ?_
    exact LP _ 0 0 (Nat.zero_add _) rfl
end FL
