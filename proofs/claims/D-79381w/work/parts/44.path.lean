/-! ===== the planner's path ===== -/
set_option maxRecDepth 100000
theorem z_decS (q p : Nat) (A : Bool) : (decide (q < p) && A || decide (q = p) && A) = (decide (q < p + 1) && A) := by
  rw [← Bool.and_or_distrib_right]
  congr 1
  rw [← Bool.decide_or]
  congr 1
  exact propext (by omega)
theorem z_decI (x : Int32) : x + Int32.ofInt (-1) = x - 1 := by rw [Int32.sub_eq_add_neg]; rfl
section PA
variable {l : Launch} {G : w_G} {M : w_M} {P : Nat → Prop} {a kd rl ol sg ra oa p0 rv re k s g H : Nat} {ras oas : List Nat} {c : z_C}
theorem z_reach_lt (hs : z_small c) (hss : s < z_size c) : ∀ (t q : Nat), z_reach c k s t q = true → q < z_size c := by
  intro t q h
  cases t with
  | zero =>
    have e : q = s := by simpa [z_reach] using h
    rw [e]; exact hss
  | succ t =>
    rw [z_reach] at h
    obtain ⟨p, hp, h1⟩ := List.any_eq_true.mp h
    rw [Bool.and_eq_true] at h1
    obtain ⟨w, hw, h2⟩ := List.any_eq_true.mp h1.2
    unfold z_step at h2
    rw [Bool.and_eq_true, decide_eq_true_eq] at h2
    exact z_by_lt hs (List.mem_range.mp hp) h2.1
theorem z_gd_lt (hs : z_small c) (hss : s < z_size c) (hgs : g < z_size c) {T : Nat} : ∀ (d q : Nat), z_gd c k s g T d q = true → q < z_size c := by
  intro d q h
  match d, h with
  | 0, h => have e : q = g := by simpa [z_gd] using h
            rw [e]; exact hgs
  | 1, h => rw [z_gd, Bool.and_eq_true] at h; exact z_reach_lt hs hss _ _ h.1
  | d + 2, h => rw [z_gd, Bool.and_eq_true] at h; exact z_reach_lt hs hss _ _ h.1
theorem z_trail_len {T : Nat} : ∀ (n t p : Nat), t + n = T → z_gd c k s g T n p = true → (z_trail c k s g T n t p).length = n := by
  intro n
  induction n with
  | zero => intro t p _ _; rfl
  | succ n ih =>
    intro t p ht h
    obtain ⟨q, h1, h2⟩ := z_gd_next (c := c) (k := k) (s := s) (g := g) (T := T) (t := t) (p := p) (by omega) (by rw [show T - t = n + 1 by omega]; exact h)
    rw [z_trail, h1]
    simp only [List.length_cons]
    rw [ih (t + 1) q (by omega) (by rw [show T - (t + 1) = n by omega] at h2; exact h2)]
theorem z_next_cong {t p : Nat} {f f' : Nat → Bool} (hs : z_small c) (hp : p < z_size c) (h : ∀ q, q < z_size c → f q = f' q) : z_next c k t p f = z_next c k t p f' := by
  have key : ∀ n w, z_nextW c k t p f n w = z_nextW c k t p f' n w := by
    intro n
    induction n with
    | zero => intro w; rfl
    | succ n ih =>
      intro w
      rw [z_nextW, z_nextW]
      cases hx : z_by c p w with
      | none => exact ih _
      | some x =>
        simp only
        rw [h x (z_by_lt hs hp hx), ih]
  exact key 5 0
/-- the good cells' array: at the ticks from t on (of T) it tells them, below t it is empty -/
def z_gst (c : z_C) (k s g T : Nat) (M N : w_M) (re gd : Nat) (gf gg : Nat → Int64) (t : Nat) (lay : Nat → Bool) : Prop := N.get re = some (.inl (.long, 31, .inr (.inl gf))) ∧ N.get gd = some (.inl (.long, T + 1, .inr (.inl gg))) ∧ w_fr M N (fun q => q = re) ∧ M.sz ≤ gd ∧
  (∀ v q, t < v → v ≤ T → q < 64 → z_bit (gg v) q = z_gd c k s g T (T - v) q) ∧ (∀ v, v < t → gg v = 0) ∧ ∀ q, q < 64 → z_bit (gg t) q = lay q
theorem z_gst.put {T : Nat} {N : w_M} {gd : Nat} {gf gg : Nat → Int64} {t : Nat} {lay lay' : Nat → Bool} (h : z_gst c k s g T M N re gd gf gg t lay) (hne : re ≠ gd) {v : Int64} (hv : ∀ q, q < 64 → z_bit v q = lay' q) : z_gst c k s g T M (N.set gd (.inl (.long, T + 1, .inr (.inl (vp_updL gg t v))))) re gd gf (vp_updL gg t v) t lay' := by
  obtain ⟨h1, h2, h3, h4, h5, h6, h7⟩ := h
  exact ⟨w_sne h1 hne, w_set_self h2, h3.setN h4, h4, fun u q hu hu2 hq => by rw [show vp_updL gg t v u = gg u from if_neg (by omega)]; exact h5 u q hu hu2 hq, fun u hu => by rw [show vp_updL gg t v u = gg u from if_neg (by omega)]; exact h6 u hu, fun q hq => by rw [show vp_updL gg t v t = v from if_pos rfl]; exact hv q hq⟩
theorem z_nextS {t p : Nat} {f : Nat → Bool} (hs : z_small c) (hp : p < z_size c) (h : ¬ z_enc (z_next c k t p f) = -1) : (z_next c k t p f).isSome = true := by
  cases hx : z_next c k t p f with
  | none => rw [hx] at h; exact absurd rfl h
  | some q => rfl
theorem z_nextF {t p : Nat} {f : Nat → Bool} (hs : z_small c) (hp : p < z_size c) (h : z_enc (z_next c k t p f) = -1) : (z_next c k t p f).isSome = false := by
  cases hx : z_next c k t p f with
  | none => rfl
  | some q =>
    rw [hx] at h
    obtain ⟨-, -, v, -, -, h5⟩ := z_nextW_some _ _ _ hx
    have hq := z_by_lt hs hp h5
    have hsz := hs.size
    have := (z_enc_m1 (g := some q) (fun j e => by cases e; omega)).mp h
    cases this
/-- what path answers -/
def z_pathQ (c : z_C) (k s g H : Nat) (M : w_M) (re : Nat) : w_O → w_M → Prop := fun o N => w_fr M N (fun q => q = re) ∧ match z_first c k s g H 0 with
  | none => o = .inl (some .null)
  | some u => ∃ (x : Nat) (f : Nat → Int32), o = .inl (some (.ref x)) ∧ M.sz ≤ x ∧ N.get x = some (.inl (.int, u + 1, .inl f)) ∧ ∀ i q, (z_trail c k s g (u + 1) (u + 1) 0 s)[i]? = some q → f i = nI q
theorem sp_path (hp : z_pl M p0 a rv re c k s g H) (h : z_coreL G M P a kd rl ol sg ra oa ras oas c) (hs : z_small c) {gf0 : Nat → Int64} (hre : M.get re = some (.inl (.long, 31, .inr (.inl gf0)))) (hPr : ∀ q, P q → ¬ q = re) (hss : s < z_size c) (hgs : g < z_size c) (hH : H ≤ 30) : w_S l G tX9_path (6, 2, 61) [.ref p0] M (z_pathQ c k s g H M re) := by
  have hg := hp.1
  have hsz := hs.size
  have hreM := w_lt hre
  refine w_start (by decide) (Nat.le_of_ble_eq_true rfl) (fun X => ?_)
  refine wa_locals [(0, _)] [0] rfl ?_
  refine wa_lo (fun lo hd => ?_)
  have hr0 : ¬ w_ad G 0 = re := fun q => by rw [← q] at hre; exact hd _ hre
  have MAIN : ∀ (u : Nat) (gf : Nat → Int64) (N : w_M), z_first c k s g H 0 = some u → N.get re = some (.inl (.long, 31, .inr (.inl gf))) → w_fr M N (fun q => q = re) → (∀ v q, v ≤ u → q < 64 → z_bit (gf v) q = z_reach c k s v q) → w_A l G tX9_path (6, 2, 61) X 0 0 N 12 [(1, .int (nI (u + 1))), (0, .ref p0)] [] (z_pathQ c k s g H M re) := by
    intro u gf N hfi hreN0 hfrN hbits
    obtain ⟨-, hu, hend, -⟩ := z_first_at H 0 u hfi
    have hu30 : u < 30 := by omega
    have hst0 := z_gd_start (c := c) (k := k) (s := s) (g := g) (T := u + 1) (by omega) hend
    -- the path, walked
    have LP : ∀ (gd x : Nat) (gg : Nat → Int64) (_ : M.sz ≤ gd) (_ : M.sz ≤ x) (_ : x ≠ gd) (n i p : Nat) (N : w_M) (f : Nat → Int32) (pre : List Nat), i + n = u + 1 → z_gd c k s g (u + 1) n p = true → pre ++ z_trail c k s g (u + 1) n i p = z_trail c k s g (u + 1) (u + 1) 0 s → pre.length = i → (∀ j q, pre[j]? = some q → f j = nI q) → (∀ v q, v ≤ u + 1 → q < 64 → z_bit (gg v) q = z_gd c k s g (u + 1) (u + 1 - v) q) → N.get gd = some (.inl (.long, u + 1 + 1, .inr (.inl gg))) → N.get x = some (.inl (.int, u + 1, .inl f)) → w_fr M N (fun q => q = re) → w_A l G tX9_path (6, 2, 61) X 2 61 N 183 [(5, .int (nI i)), (4, .int (nI p)), (3, .ref x), (2, .ref gd), (1, .int (nI (u + 1))), (0, .ref p0)] [] (z_pathQ c k s g H M re) := by
      intro gd x gg hgd hx hxg n
      induction n with
      | zero =>
        intro i p N f pre hin hgp htr hpl hpf hb hgdN hxN hfr
        refine wa_iload 0 dX9_path_183 rfl ?_
        refine wa_iload_n 4 dX9_path_185 rfl rfl ?_
        refine wa_icmp_ge 217 dX9_path_186 rfl (fun c186 => ?_) (fun c186 => absurd (nI_le (by omega) (by omega)) c186)
        refine wa_aload_n 2 dX9_path_217 rfl rfl ?_
        refine wa_aret (FieldType.array FieldType.int) dX9_path_218 rfl rfl (Nat.le_of_ble_eq_true rfl) (Nat.le_of_ble_eq_true rfl) ?_
        refine ⟨hfr, ?_⟩
        rw [hfi]
        refine ⟨x, f, rfl, hx, hxN, fun j q hj => ?_⟩
        rw [← htr] at hj
        exact hpf j q (by rw [← List.append_nil pre]; exact hj)
      | succ n ih =>
        intro i p N f pre hin hgp htr hpl hpf hb hgdN hxN hfr
        have hpN := hp.keep hre hfr
        have hgN := hpN.1
        have hcN := h.keep (W := fun q => q = re) hfr hPr hr0
        have hps := z_gd_lt hs hss hgs (n + 1) p hgp
        obtain ⟨q, h1, h2⟩ := z_gd_next (c := c) (k := k) (s := s) (g := g) (T := u + 1) (t := i) (p := p) (by omega) (by rw [show u + 1 - i = n + 1 by omega]; exact hgp)
        have hqs := z_gd_lt hs hss hgs _ q h2
        have e1 : z_next c k i p (z_bit (gg (i + 1))) = some q := by
          rw [← h1]
          exact z_next_cong hs hps (fun q2 hq2 => hb (i + 1) q2 (by omega) (by omega))
        have e2 : u + 1 - (i + 1) = n := by omega
        rw [e2] at h2
        rw [z_trail, h1] at htr
        refine wa_iload 0 dX9_path_183 rfl ?_
        refine wa_iload_n 4 dX9_path_185 rfl rfl ?_
        refine wa_icmp_ge 217 dX9_path_186 rfl (fun c186 => absurd c186 (nI_lt_not (by omega) (by omega))) (fun c186 => ?_)
        refine wa_aload_n 5 dX9_path_189 rfl rfl ?_
        refine wa_iload 0 dX9_path_190 rfl ?_
        refine wa_iload 1 dX9_path_192 rfl ?_
        refine wa_aload_n 3 dX9_path_194 rfl rfl ?_
        refine wa_iload 0 dX9_path_195 rfl ?_
        refine wa_iconst (1) dX9_path_197 (by decide) ?_
        refine wa_iadd dX9_path_198 ?_
        rw [show nI i + 1 = nI (i + 1) from nI_1 i]
        refine wa_lald dX9_path_199 hgdN (vp_in_nI (by omega) (by omega)) ?_
        rw [nI_clamp (by omega)]
        refine wc_isI (wr_V dX9_path_200 mX9_125 (sp_nextFrom hpN hcN hs (by omega) hps) hgN rfl (w_fit_mk (by (try dsimp only); omega) (by (try dsimp only); omega) rfl) rfl (Nat.le_of_ble_eq_true rfl)) ?_
        rw [e1, show z_enc (some q) = nI q from rfl]
        refine wa_istore [(4, _), (5, _), (3, _), (2, _), (1, _), (0, _)] dX9_path_203 (Nat.le_of_ble_eq_true rfl) rfl ?_
        refine wa_aload_n 2 dX9_path_205 rfl rfl ?_
        refine wa_iload 1 dX9_path_206 rfl ?_
        refine wa_iload 0 dX9_path_208 rfl ?_
        refine wa_iast dX9_path_210 hxN (vp_in_nI (by omega) (by omega)) ?_
        rw [nI_clamp (by omega)]
        refine wa_iinc 1 [(5, _), (4, _), (3, _), (2, _), (1, _), (0, _)] dX9_path_211 rfl (w_inc i) (Nat.le_of_ble_eq_true rfl) rfl ?_
        refine wa_goto 183 dX9_path_214 rfl ?_
        refine wa_locals [(5, _), (4, _), (3, _), (2, _), (1, _), (0, _)] [0, 1, 2, 3, 4, 5] rfl ?_
        refine ih (i + 1) q (N.set x (.inl (.int, u + 1, .inl (upd f i (nI q))))) (upd f i (nI q)) (pre ++ [q]) (by omega) h2 ?_ (by simp [hpl]) (fun j y hj => ?_) hb (w_sne hgdN hxg.symm) (w_set_self hxN) (hfr.setN hx)
        · rw [List.append_assoc]
          exact htr
        · by_cases hji : j = i
          · subst hji
            rw [List.getElem?_append_right (by omega), hpl, Nat.sub_self] at hj
            cases hj
            exact if_pos rfl
          · have hlt : j < i := by have := (List.getElem?_eq_some_iff.mp hj).1; simp at this; omega
            rw [List.getElem?_append_left (by omega)] at hj
            rw [show upd f i (nI q) j = f j from if_neg hji]
            exact hpf j y hj
    -- the good cells of the ticks ahead of the last
    have LB2 : ∀ (gd : Nat) (_ : re ≠ gd) (t : Nat) (_ : t + 2 ≤ u + 1)
        (_ : ∀ (v : Int32) (N : w_M) (gg : Nat → Int64), z_gst c k s g (u + 1) M N re gd gf gg t (fun q => z_gd c k s g (u + 1) (u + 1 - t) q) → w_A l G tX9_path (6, 2, 61) X 1 31 N 164 [(4, .int v), (3, .int (nI t)), (2, .ref gd), (1, .int (nI (u + 1))), (0, .ref p0)] [] (z_pathQ c k s g H M re)),
        ∀ (n p : Nat) (N : w_M) (gg : Nat → Int64), p + n = z_size c → z_gst c k s g (u + 1) M N re gd gf gg t (fun q => decide (q < p) && z_gd c k s g (u + 1) (u + 1 - t) q) → w_A l G tX9_path (6, 2, 61) X 1 31 N 106 [(4, .int (nI p)), (3, .int (nI t)), (2, .ref gd), (1, .int (nI (u + 1))), (0, .ref p0)] [] (z_pathQ c k s g H M re) := by
      intro gd hne t ht K n
      induction n with
      | zero =>
        intro p N gg hn hst
        have hpN := hp.keep hre hst.2.2.1
        have hgN := hpN.1
        have hcN := h.keep (W := fun q => q = re) hst.2.2.1 hPr hr0
        have hgc := hcN.2.1
        have hreN := hst.1
        have hgdN := hst.2.1
        refine wa_iload 0 dX9_path_106 rfl ?_
        refine wa_aload_n 4 dX9_path_108 rfl rfl ?_
        refine wa_getf dX9_path_109 gX9_19 hgN rfl ?_
        refine wc_isI (wr_V dX9_path_112 mX9_79 (sp_C_size hcN) hgc rfl (w_fit_mk (by (try dsimp only); omega) (by (try dsimp only); omega) rfl) rfl (Nat.le_of_ble_eq_true rfl)) ?_
        refine wa_icmp_ge 164 dX9_path_115 rfl (fun c115 => ?_) (fun c115 => absurd (nI_le (by omega) (by omega)) c115)
        refine K _ N gg ⟨hst.1, hst.2.1, hst.2.2.1, hst.2.2.2.1, hst.2.2.2.2.1, hst.2.2.2.2.2.1, fun q hq => ?_⟩
        rw [hst.2.2.2.2.2.2 q hq]
        show (decide (q < p) && z_gd c k s g (u + 1) (u + 1 - t) q) = z_gd c k s g (u + 1) (u + 1 - t) q
        cases hb : z_gd c k s g (u + 1) (u + 1 - t) q with
        | false => simp
        | true => have := z_gd_lt hs hss hgs _ q hb; simp; omega
      | succ n ih =>
        intro p N gg hn hst
        have hpN := hp.keep hre hst.2.2.1
        have hgN := hpN.1
        have hcN := h.keep (W := fun q => q = re) hst.2.2.1 hPr hr0
        have hgc := hcN.2.1
        have hreN := hst.1
        have hgdN := hst.2.1
        have hb1 : ∀ q, q < 64 → z_bit (gg (t + 1)) q = z_gd c k s g (u + 1) (u + 1 - (t + 1)) q := fun q hq => hst.2.2.2.2.1 (t + 1) q (by omega) (by omega) hq
        have enx : z_next c k t p (z_bit (gg (t + 1))) = z_next c k t p (z_gd c k s g (u + 1) (u + 1 - (t + 1))) := z_next_cong hs (by omega) (fun q hq => hb1 q (by omega))
        have hgde : ∀ q, z_gd c k s g (u + 1) (u + 1 - t) q = (z_reach c k s t q && (z_next c k t q (z_gd c k s g (u + 1) (u + 1 - (t + 1)))).isSome) := fun q => by
          obtain ⟨d, hd⟩ : ∃ d, u + 1 - t = d + 2 := ⟨u + 1 - t - 2, by omega⟩
          rw [hd, z_gd, show u + 1 - (d + 2) = t by omega, show u + 1 - (t + 1) = d + 1 by omega]
        have fin : ∀ x : Int64, (∀ q, q < 64 → z_bit x q = (decide (q = p) && z_gd c k s g (u + 1) (u + 1 - t) q)) → w_A l G tX9_path (6, 2, 61) X 1 31 (N.set gd (.inl (.long, u + 1 + 1, .inr (.inl (vp_updL gg t (gg t ||| x)))))) 106 [(4, .int (nI (p + 1))), (3, .int (nI t)), (2, .ref gd), (1, .int (nI (u + 1))), (0, .ref p0)] [] (z_pathQ c k s g H M re) := fun x hx => ih (p + 1) _ _ (by omega) (hst.put hne (fun q hq => by
          rw [z_bit_or hq, hst.2.2.2.2.2.2 q hq, hx q hq]
          exact z_decS q p _))
        refine wa_iload 0 dX9_path_106 rfl ?_
        refine wa_aload_n 4 dX9_path_108 rfl rfl ?_
        refine wa_getf dX9_path_109 gX9_19 hgN rfl ?_
        refine wc_isI (wr_V dX9_path_112 mX9_79 (sp_C_size hcN) hgc rfl (w_fit_mk (by (try dsimp only); omega) (by (try dsimp only); omega) rfl) rfl (Nat.le_of_ble_eq_true rfl)) ?_
        refine wa_icmp_ge 164 dX9_path_115 rfl (fun c115 => absurd c115 (nI_lt_not (by omega) (by omega))) (fun c115 => ?_)
        refine wa_aload_n 2 dX9_path_118 rfl rfl ?_
        refine wa_iload_n 1 dX9_path_119 rfl rfl ?_
        refine wa_dup2 dX9_path_120 rfl rfl ?_
        refine wa_lald dX9_path_121 hgdN (vp_in_nI (by omega) (by omega)) ?_
        rw [nI_clamp (by omega)]
        refine wa_aload_n 4 dX9_path_122 rfl rfl ?_
        refine wa_iload_n 1 dX9_path_123 rfl rfl ?_
        refine wa_iload 0 dX9_path_124 rfl ?_
        refine wc_isI (wr_V dX9_path_126 mX9_80 (sp_isReached hpN hreN (by omega)) hgN rfl (w_fit_mk (by (try dsimp only); omega) (by (try dsimp only); omega) rfl) rfl (Nat.le_of_ble_eq_true rfl)) ?_
        refine wa_if_eq 155 dX9_path_129 rfl (fun c129 => ?_) (fun c129 => ?_)
        ·
          have i2 := z_n c129
          refine wa_lconst 0 dX9_path_155 (by decide) ?_
          refine wa_lor dX9_path_156 ?_
          refine wa_last dX9_path_157 hgdN (vp_in_nI (by omega) (by omega)) ?_
          rw [nI_clamp (by omega)]
          refine wa_iinc 0 [(4, _), (3, _), (2, _), (1, _), (0, _)] dX9_path_158 rfl (w_inc p) (Nat.le_of_ble_eq_true rfl) rfl ?_
          refine wa_goto 106 dX9_path_161 rfl ?_
          refine wa_locals [(4, _), (3, _), (2, _), (1, _), (0, _)] [0, 1, 2, 3, 4] rfl ?_
          refine fin 0 (fun q hq => ?_)
          rw [z_bit_zero hq]
          by_cases e : q = p
          · subst e
            rw [hgde, show z_reach c k s t q = false from by rw [← hbits t q (by omega) hq]; exact Bool.eq_false_iff.mpr i2]
            simp
          · rw [decide_eq_false e, Bool.false_and]
        ·
          refine wa_aload_n 4 dX9_path_132 rfl rfl ?_
          refine wa_iload_n 1 dX9_path_133 rfl rfl ?_
          refine wa_iload 0 dX9_path_134 rfl ?_
          refine wa_aload_n 2 dX9_path_136 rfl rfl ?_
          refine wa_iload_n 1 dX9_path_137 rfl rfl ?_
          refine wa_iconst (1) dX9_path_138 (by decide) ?_
          refine wa_iadd dX9_path_139 ?_
          rw [show nI t + 1 = nI (t + 1) from nI_1 t]
          refine wa_lald dX9_path_140 hgdN (vp_in_nI (by omega) (by omega)) ?_
          rw [nI_clamp (by omega)]
          refine wc_isI (wr_V dX9_path_141 mX9_125 (sp_nextFrom hpN hcN hs (by omega) (by omega)) hgN rfl (w_fit_mk (by (try dsimp only); omega) (by (try dsimp only); omega) rfl) rfl (Nat.le_of_ble_eq_true rfl)) ?_
          rw [enx]
          refine wa_iconst (-1) dX9_path_144 (by decide) ?_
          refine wa_icmp_eq 155 dX9_path_145 rfl (fun c145 => ?_) (fun c145 => ?_)
          ·
            have i3 : (z_next c k t p (z_gd c k s g (u + 1) (u + 1 - (t + 1)))).isSome = false := z_nextF hs (by omega) c145
            refine wa_lconst 0 dX9_path_155 (by decide) ?_
            refine wa_lor dX9_path_156 ?_
            refine wa_last dX9_path_157 hgdN (vp_in_nI (by omega) (by omega)) ?_
            rw [nI_clamp (by omega)]
            refine wa_iinc 0 [(4, _), (3, _), (2, _), (1, _), (0, _)] dX9_path_158 rfl (w_inc p) (Nat.le_of_ble_eq_true rfl) rfl ?_
            refine wa_goto 106 dX9_path_161 rfl ?_
            refine wa_locals [(4, _), (3, _), (2, _), (1, _), (0, _)] [0, 1, 2, 3, 4] rfl ?_
            refine fin 0 (fun q hq => ?_)
            rw [z_bit_zero hq]
            by_cases e : q = p
            · subst e
              rw [hgde, i3, Bool.and_false, Bool.and_false]
            · rw [decide_eq_false e, Bool.false_and]
          ·
            have i3 : (z_next c k t p (z_gd c k s g (u + 1) (u + 1 - (t + 1)))).isSome = true := z_nextS hs (by omega) c145
            refine wa_lconst 1 dX9_path_148 (by decide) ?_
            refine wa_iload 0 dX9_path_149 rfl ?_
            refine wa_lshl dX9_path_151 ?_
            rw [z_oneE]
            refine wa_goto 156 dX9_path_152 rfl ?_
            refine wa_lor dX9_path_156 ?_
            refine wa_last dX9_path_157 hgdN (vp_in_nI (by omega) (by omega)) ?_
            rw [nI_clamp (by omega)]
            refine wa_iinc 0 [(4, _), (3, _), (2, _), (1, _), (0, _)] dX9_path_158 rfl (w_inc p) (Nat.le_of_ble_eq_true rfl) rfl ?_
            refine wa_goto 106 dX9_path_161 rfl ?_
            refine wa_locals [(4, _), (3, _), (2, _), (1, _), (0, _)] [0, 1, 2, 3, 4] rfl ?_
            refine fin (z_one p) (fun q hq => ?_)
            rw [z_bit_one (by omega) hq]
            by_cases e : q = p
            · subst e
              rw [hgde, i3, show z_reach c k s t q = true from by rw [← hbits t q (by omega) hq]; exact z_y c129]
              simp
            · rw [decide_eq_false e, Bool.false_and]
    have LB : ∀ (gd : Nat) (_ : re ≠ gd) (m : Nat) (N : w_M) (gg : Nat → Int64) (lay : Nat → Bool), m ≤ u → z_gst c k s g (u + 1) M N re gd gf gg m (fun q => z_gd c k s g (u + 1) (u + 1 - m) q) → w_A l G tX9_path (6, 2, 61) X 1 31 N 99 [(3, .int (nI m - 1)), (2, .ref gd), (1, .int (nI (u + 1))), (0, .ref p0)] [] (z_pathQ c k s g H M re) := by
      intro gd hne m
      induction m with
      | zero =>
        intro N gg lay hm hst
        have hpN := hp.keep hre hst.2.2.1
        have hgN := hpN.1
        have hcN := h.keep (W := fun q => q = re) hst.2.2.1 hPr hr0
        have hgc := hcN.2.1
        have hreN := hst.1
        have hgdN := hst.2.1
        refine wa_iload_n 0 dX9_path_99 rfl rfl ?_
        refine wa_if_lt 170 dX9_path_100 rfl (fun c100 => ?_) (fun c100 => absurd (show nI 0 - 1 < 0 by decide) c100)
        refine wa_iload_n 2 dX9_path_170 rfl rfl ?_
        refine wa_newi (u + 1) dX9_path_171 q160 rfl (by omega) (by (try dsimp only); omega) (by (try dsimp only); omega) ?_
        refine wa_pad (k' := 2) (n' := 61) (by (try dsimp only); omega) (by (try dsimp only); omega) ?_
        refine wa_astore_n [(3, _), (2, _), (1, _), (0, _)] dX9_path_173 rfl (Nat.le_of_ble_eq_true rfl) rfl ?_
        refine wa_aload_n 3 dX9_path_174 rfl rfl ?_
        refine wa_getf dX9_path_175 gX9_47 (w_push_old hgN) rfl ?_
        refine wa_istore [(4, _), (3, _), (2, _), (1, _), (0, _)] dX9_path_178 (Nat.le_of_ble_eq_true rfl) rfl ?_
        refine wa_iconst (0) dX9_path_180 (by decide) ?_
        refine wa_istore [(5, _), (4, _), (3, _), (2, _), (1, _), (0, _)] dX9_path_181 (Nat.le_of_ble_eq_true rfl) rfl ?_
        refine wa_locals [(5, _), (4, _), (3, _), (2, _), (1, _), (0, _)] [0, 1, 2, 3, 4, 5] rfl ?_
        exact LP gd N.sz gg hst.2.2.2.1 hst.2.2.1.1 (w_lt_of_mem hgdN).symm (u + 1) 0 s _ _ [] (by omega) hst0 rfl rfl (fun j q hj => by cases hj) (fun v q hv hq => by
          by_cases h0 : v = 0
          · subst h0; exact hst.2.2.2.2.2.2 q hq
          · exact hst.2.2.2.2.1 v q (by omega) hv hq) (w_push_old hgdN) w_push_self hst.2.2.1.push
      | succ m ih =>
        intro N gg lay hm hst
        have hpN := hp.keep hre hst.2.2.1
        have hgN := hpN.1
        have hcN := h.keep (W := fun q => q = re) hst.2.2.1 hPr hr0
        have hgc := hcN.2.1
        have hreN := hst.1
        have hgdN := hst.2.1
        rw [nI_pred m]
        refine wa_iload_n 0 dX9_path_99 rfl rfl ?_
        refine wa_if_lt 170 dX9_path_100 rfl (fun c100 => absurd c100 (nI_pos (by omega))) (fun c100 => ?_)
        refine wa_iconst (0) dX9_path_103 (by decide) ?_
        refine wa_istore [(4, _), (3, _), (2, _), (1, _), (0, _)] dX9_path_104 (Nat.le_of_ble_eq_true rfl) rfl ?_
        refine LB2 gd hne m (by omega) (fun v N2 gg2 hst2 => ?_) (z_size c) 0 N gg (by omega) ⟨hst.1, hst.2.1, hst.2.2.1, hst.2.2.2.1, fun v q hv hv2 hq => ?_, fun v hv => hst.2.2.2.2.2.1 v (by omega), fun q hq => by rw [hst.2.2.2.2.2.1 m (by omega), z_bit_zero hq]; rfl⟩
        · refine wa_iinc 1 [(3, _), (4, _), (2, _), (1, _), (0, _)] dX9_path_164 rfl (z_decI _) (Nat.le_of_ble_eq_true rfl) rfl ?_
          refine wa_goto 99 dX9_path_167 rfl ?_
          refine wa_locals [(3, _), (2, _), (1, _), (0, _)] [0, 2, 3, 4] rfl ?_
          exact ih N2 gg2 lay (by omega) hst2
        · by_cases e : v = m + 1
          · subst e; exact hst.2.2.2.2.2.2 q hq
          · exact hst.2.2.2.2.1 v q (by omega) hv2 hq
    have LA : ∀ (gd : Nat) (_ : re ≠ gd) (n p : Nat) (N : w_M) (gg : Nat → Int64), p + n = z_size c → N.get re = some (.inl (.long, 31, .inr (.inl gf))) → N.get gd = some (.inl (.long, u + 1 + 1, .inr (.inl gg))) → w_fr M N (fun q => q = re) → M.sz ≤ gd → (∀ v, v < u → gg v = 0) → (∀ q, q < 64 → z_bit (gg u) q = (decide (q < p) && z_gd c k s g (u + 1) 1 q)) → w_A l G tX9_path (6, 2, 61) X 1 31 N 20 [(3, .int (nI p)), (2, .ref gd), (1, .int (nI (u + 1))), (0, .ref p0)] [] (z_pathQ c k s g H M re) := by
      intro gd hne n
      induction n with
      | zero =>
        intro p N gg hn hreN hgdN hfr hgdM hz hb
        have hpN := hp.keep hre hfr
        have hgN := hpN.1
        have hcN := h.keep (W := fun q => q = re) hfr hPr hr0
        have hgc := hcN.2.1
        refine wa_iload_n 0 dX9_path_20 rfl rfl ?_
        refine wa_aload_n 3 dX9_path_21 rfl rfl ?_
        refine wa_getf dX9_path_22 gX9_19 hgN rfl ?_
        refine wc_isI (wr_V dX9_path_25 mX9_79 (sp_C_size hcN) hgc rfl (w_fit_mk (by (try dsimp only); omega) (by (try dsimp only); omega) rfl) rfl (Nat.le_of_ble_eq_true rfl)) ?_
        refine wa_icmp_ge 86 dX9_path_28 rfl (fun c28 => ?_) (fun c28 => absurd (nI_le (by omega) (by omega)) c28)
        refine wa_aload_n 1 dX9_path_86 rfl rfl ?_
        refine wa_iload_n 2 dX9_path_87 rfl rfl ?_
        refine wa_lconst 1 dX9_path_88 (by decide) ?_
        refine wa_aload_n 3 dX9_path_89 rfl rfl ?_
        refine wa_getf dX9_path_90 gX9_27 hgN rfl ?_
        refine wa_lshl dX9_path_93 ?_
        rw [z_oneE]
        refine wa_last dX9_path_94 hgdN (vp_in_nI (by omega) (by omega)) ?_
        rw [nI_clamp (by omega)]
        refine wa_iload_n 2 dX9_path_95 rfl rfl ?_
        refine wa_iconst (2) dX9_path_96 (by decide) ?_
        refine wa_isub dX9_path_97 ?_
        refine wa_istore_n [(3, _), (2, _), (1, _), (0, _)] dX9_path_98 rfl (Nat.le_of_ble_eq_true rfl) rfl ?_
        refine wa_locals [(3, _), (2, _), (1, _), (0, _)] [0, 1, 2, 3] rfl ?_
        rw [show nI (u + 1) - 2 = nI u - 1 by rw [← nI_pred u]; rw [Int32.sub_sub]; rfl]
        refine LB gd hne u _ (vp_updL gg (u + 1) (z_one g)) (fun _ => true) (Nat.le_refl _) ⟨w_sne hreN hne, w_set_self hgdN, hfr.setN hgdM, hgdM, fun v q hv hv2 hq => ?_, fun v hv => by rw [show vp_updL gg (u + 1) (z_one g) v = gg v from if_neg (by omega)]; exact hz v hv, fun q hq => ?_⟩
        · rw [show v = u + 1 by omega, show vp_updL gg (u + 1) (z_one g) (u + 1) = z_one g from if_pos rfl, z_bit_one (by omega) hq, Nat.sub_self]
          rfl
        · rw [show vp_updL gg (u + 1) (z_one g) u = gg u from if_neg (by omega), hb q hq]
          show (decide (q < p) && z_gd c k s g (u + 1) 1 q) = z_gd c k s g (u + 1) (u + 1 - u) q
          rw [show u + 1 - u = 1 by omega]
          cases hb2 : z_gd c k s g (u + 1) 1 q with
          | false => simp
          | true => have := z_gd_lt hs hss hgs _ q hb2; simp; omega
      | succ n ih =>
        intro p N gg hn hreN hgdN hfr hgdM hz hb
        have hpN := hp.keep hre hfr
        have hgN := hpN.1
        have hcN := h.keep (W := fun q => q = re) hfr hPr hr0
        have hgc := hcN.2.1
        have hgde : ∀ q, z_gd c k s g (u + 1) 1 q = (z_reach c k s u q && (z_isBeside c q g && z_isEnd c k g u q)) := fun q => rfl
        have fin : ∀ x : Int64, (∀ q, q < 64 → z_bit x q = (decide (q = p) && z_gd c k s g (u + 1) 1 q)) → w_A l G tX9_path (6, 2, 61) X 1 31 (N.set gd (.inl (.long, u + 1 + 1, .inr (.inl (vp_updL gg u (gg u ||| x)))))) 20 [(3, .int (nI (p + 1))), (2, .ref gd), (1, .int (nI (u + 1))), (0, .ref p0)] [] (z_pathQ c k s g H M re) := fun x hx => ih (p + 1) _ (vp_updL gg u (gg u ||| x)) (by omega) (w_sne hreN hne) (w_set_self hgdN) (hfr.setN hgdM) hgdM (fun v hv => by rw [show vp_updL gg u (gg u ||| x) v = gg v from if_neg (by omega)]; exact hz v hv) (fun q hq => by
          rw [show vp_updL gg u (gg u ||| x) u = gg u ||| x from if_pos rfl, z_bit_or hq, hb q hq, hx q hq]
          exact z_decS q p _)
        refine wa_iload_n 0 dX9_path_20 rfl rfl ?_
        refine wa_aload_n 3 dX9_path_21 rfl rfl ?_
        refine wa_getf dX9_path_22 gX9_19 hgN rfl ?_
        refine wc_isI (wr_V dX9_path_25 mX9_79 (sp_C_size hcN) hgc rfl (w_fit_mk (by (try dsimp only); omega) (by (try dsimp only); omega) rfl) rfl (Nat.le_of_ble_eq_true rfl)) ?_
        refine wa_icmp_ge 86 dX9_path_28 rfl (fun c28 => absurd c28 (nI_lt_not (by omega) (by omega))) (fun c28 => ?_)
        refine wa_aload_n 1 dX9_path_31 rfl rfl ?_
        refine wa_iload_n 2 dX9_path_32 rfl rfl ?_
        refine wa_iconst (1) dX9_path_33 (by decide) ?_
        refine wa_isub dX9_path_34 ?_
        rw [nI_pred u]
        refine wa_dup2 dX9_path_35 rfl rfl ?_
        refine wa_lald dX9_path_36 hgdN (vp_in_nI (by omega) (by omega)) ?_
        rw [nI_clamp (by omega)]
        refine wa_aload_n 3 dX9_path_37 rfl rfl ?_
        refine wa_iload_n 2 dX9_path_38 rfl rfl ?_
        refine wa_iconst (1) dX9_path_39 (by decide) ?_
        refine wa_isub dX9_path_40 ?_
        rw [nI_pred u]
        refine wa_iload_n 0 dX9_path_41 rfl rfl ?_
        refine wc_isI (wr_V dX9_path_42 mX9_80 (sp_isReached hpN hreN (by omega)) hgN rfl (w_fit_mk (by (try dsimp only); omega) (by (try dsimp only); omega) rfl) rfl (Nat.le_of_ble_eq_true rfl)) ?_
        refine wa_if_eq 77 dX9_path_45 rfl (fun c45 => ?_) (fun c45 => ?_)
        ·
          have i4 : z_gd c k s g (u + 1) 1 p = false := by
            rw [hgde]
            rw [← hbits u p (Nat.le_refl _) (by omega), Bool.eq_false_iff.mpr (z_n c45), Bool.false_and]
          refine wa_lconst 0 dX9_path_77 (by decide) ?_
          refine wa_lor dX9_path_78 ?_
          refine wa_last dX9_path_79 hgdN (vp_in_nI (by omega) (by omega)) ?_
          rw [nI_clamp (by omega)]
          refine wa_iinc 0 [(3, _), (2, _), (1, _), (0, _)] dX9_path_80 rfl (w_inc p) (Nat.le_of_ble_eq_true rfl) rfl ?_
          refine wa_goto 20 dX9_path_83 rfl ?_
          refine wa_locals [(3, _), (2, _), (1, _), (0, _)] [0, 1, 2, 3] rfl ?_
          refine fin 0 (fun q hq => ?_)
          rw [z_bit_zero hq]
          by_cases e : q = p
          · subst e
            rw [i4, Bool.and_false]
          · rw [decide_eq_false e, Bool.false_and]
        ·
          refine wa_aload_n 3 dX9_path_48 rfl rfl ?_
          refine wa_iload_n 0 dX9_path_49 rfl rfl ?_
          refine wa_aload_n 3 dX9_path_50 rfl rfl ?_
          refine wa_getf dX9_path_51 gX9_27 hgN rfl ?_
          refine wc_isI (wr_V dX9_path_54 mX9_122 (sp_isBeside hpN hcN hs (by omega) hgs) hgN rfl (w_fit_mk (by (try dsimp only); omega) (by (try dsimp only); omega) rfl) rfl (Nat.le_of_ble_eq_true rfl)) ?_
          refine wa_if_eq 77 dX9_path_57 rfl (fun c57 => ?_) (fun c57 => ?_)
          ·
            have i4 : z_gd c k s g (u + 1) 1 p = false := by
              rw [hgde]
              rw [Bool.eq_false_iff.mpr (z_n c57), Bool.false_and, Bool.and_false]
            refine wa_lconst 0 dX9_path_77 (by decide) ?_
            refine wa_lor dX9_path_78 ?_
            refine wa_last dX9_path_79 hgdN (vp_in_nI (by omega) (by omega)) ?_
            rw [nI_clamp (by omega)]
            refine wa_iinc 0 [(3, _), (2, _), (1, _), (0, _)] dX9_path_80 rfl (w_inc p) (Nat.le_of_ble_eq_true rfl) rfl ?_
            refine wa_goto 20 dX9_path_83 rfl ?_
            refine wa_locals [(3, _), (2, _), (1, _), (0, _)] [0, 1, 2, 3] rfl ?_
            refine fin 0 (fun q hq => ?_)
            rw [z_bit_zero hq]
            by_cases e : q = p
            · subst e
              rw [i4, Bool.and_false]
            · rw [decide_eq_false e, Bool.false_and]
          ·
            refine wa_aload_n 3 dX9_path_60 rfl rfl ?_
            refine wa_iload_n 2 dX9_path_61 rfl rfl ?_
            refine wa_iconst (1) dX9_path_62 (by decide) ?_
            refine wa_isub dX9_path_63 ?_
            rw [nI_pred u]
            refine wa_iload_n 0 dX9_path_64 rfl rfl ?_
            refine wc_isI (wr_V dX9_path_65 mX9_87 (sp_isEnd hpN hs (by omega) (by omega) (by omega)) hgN rfl (w_fit_mk (by (try dsimp only); omega) (by (try dsimp only); omega) rfl) rfl (Nat.le_of_ble_eq_true rfl)) ?_
            refine wa_if_eq 77 dX9_path_68 rfl (fun c68 => ?_) (fun c68 => ?_)
            ·
              have i4 : z_gd c k s g (u + 1) 1 p = false := by
                rw [hgde]
                rw [Bool.eq_false_iff.mpr (z_n c68), Bool.and_false, Bool.and_false]
              refine wa_lconst 0 dX9_path_77 (by decide) ?_
              refine wa_lor dX9_path_78 ?_
              refine wa_last dX9_path_79 hgdN (vp_in_nI (by omega) (by omega)) ?_
              rw [nI_clamp (by omega)]
              refine wa_iinc 0 [(3, _), (2, _), (1, _), (0, _)] dX9_path_80 rfl (w_inc p) (Nat.le_of_ble_eq_true rfl) rfl ?_
              refine wa_goto 20 dX9_path_83 rfl ?_
              refine wa_locals [(3, _), (2, _), (1, _), (0, _)] [0, 1, 2, 3] rfl ?_
              refine fin 0 (fun q hq => ?_)
              rw [z_bit_zero hq]
              by_cases e : q = p
              · subst e
                rw [i4, Bool.and_false]
              · rw [decide_eq_false e, Bool.false_and]
            ·
              have i4 : z_gd c k s g (u + 1) 1 p = true := by rw [hgde, ← hbits u p (Nat.le_refl _) (by omega), z_y c45, z_y c57, z_y c68]; rfl
              refine wa_lconst 1 dX9_path_71 (by decide) ?_
              refine wa_iload_n 0 dX9_path_72 rfl rfl ?_
              refine wa_lshl dX9_path_73 ?_
              rw [z_oneE]
              refine wa_goto 78 dX9_path_74 rfl ?_
              refine wa_lor dX9_path_78 ?_
              refine wa_last dX9_path_79 hgdN (vp_in_nI (by omega) (by omega)) ?_
              rw [nI_clamp (by omega)]
              refine wa_iinc 0 [(3, _), (2, _), (1, _), (0, _)] dX9_path_80 rfl (w_inc p) (Nat.le_of_ble_eq_true rfl) rfl ?_
              refine wa_goto 20 dX9_path_83 rfl ?_
              refine wa_locals [(3, _), (2, _), (1, _), (0, _)] [0, 1, 2, 3] rfl ?_
              refine fin (z_one p) (fun q hq => ?_)
              rw [z_bit_one (by omega) hq]
              by_cases e : q = p
              · subst e
                rw [i4]
                simp
              · rw [decide_eq_false e, Bool.false_and]
    refine wa_iload_n 0 dX9_path_12 rfl rfl ?_
    refine wa_iconst (1) dX9_path_13 (by decide) ?_
    refine wa_iadd dX9_path_14 ?_
    rw [show nI (u + 1) + 1 = nI (u + 1 + 1) from nI_1 _]
    refine wa_newl (u + 1 + 1) dX9_path_15 q938 rfl (by omega) (by (try dsimp only); omega) (by (try dsimp only); omega) ?_
    refine wa_pad (k' := 1) (n' := 31) (by (try dsimp only); omega) (by (try dsimp only); omega) ?_
    refine wa_astore_n [(2, _), (1, _), (0, _)] dX9_path_17 rfl (Nat.le_of_ble_eq_true rfl) rfl ?_
    refine wa_iconst (0) dX9_path_18 (by decide) ?_
    refine wa_istore_n [(3, _), (2, _), (1, _), (0, _)] dX9_path_19 rfl (Nat.le_of_ble_eq_true rfl) rfl ?_
    refine wa_locals [(3, _), (2, _), (1, _), (0, _)] [0, 1, 2, 3] rfl ?_
    exact LA N.sz (w_lt_of_mem hreN0) (z_size c) 0 _ (fun _ => 0) (by omega) (w_push_old hreN0) w_push_self hfrN.push hfrN.1 (fun _ _ => rfl) (fun q hq => by rw [z_bit_zero hq]; rfl)
  refine wa_aload_n 0 dX9_path_0 rfl rfl ?_
  refine wc_I (wr_V dX9_path_1 mX9_119 (sp_layers hp h hs hre hPr hss hgs hH) hg rfl rfl rfl (Nat.le_of_ble_eq_true rfl)) (fun r1 M1 h1 => ?_)
  obtain ⟨e1, hf1, gf, hg1, hb1⟩ := h1
  subst e1
  refine wa_istore_n [(1, _), (0, _)] dX9_path_4 rfl (Nat.le_of_ble_eq_true rfl) rfl ?_
  cases hfi : z_first c k s g H 0 with
  | none =>
    refine wa_iload_n 0 dX9_path_5 rfl rfl ?_
    refine wa_iconst (-1) dX9_path_6 (by decide) ?_
    refine wa_icmp_ne 12 dX9_path_7 rfl (fun c7 => absurd rfl c7) (fun c7 => ?_)
    refine wa_null dX9_path_10 ?_
    refine wa_aretN (FieldType.array FieldType.int) dX9_path_11 rfl rfl (Nat.le_of_ble_eq_true rfl) (Nat.le_of_ble_eq_true rfl) ?_
    refine ⟨hf1, ?_⟩
    rw [hfi]
  | some u =>
    refine wa_iload_n 0 dX9_path_5 rfl rfl ?_
    refine wa_iconst (-1) dX9_path_6 (by decide) ?_
    refine wa_icmp_ne 12 dX9_path_7 rfl (fun c7 => ?_) (fun c7 => absurd c7 (fun z => by have := (z_enc_m1 (g := some (u + 1)) (fun j e => by cases e; have := (z_first_at H 0 u hfi).2.1; omega)).mp z; cases this))
    exact MAIN u gf M1 hfi hg1 hf1 (fun v q hv hq => hb1 u hfi v q hv hq)
  
end PA
