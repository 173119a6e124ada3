/-! ===== distances from a cell ===== -/
set_option maxRecDepth 100000
/-- the search's state: distances, the cells in the order in which they were found -/
abbrev z_B : Type := (Nat → Option Nat) × List Nat
def z_bPut (s : z_B) (q t : Nat) : z_B := (fun y => if y = t then (s.1 q).map (· + 1) else s.1 y, s.2 ++ [t])
def z_bW (c : z_C) (q : Nat) : Nat → Nat → z_B → z_B
  | 0, _, s => s
  | n + 1, w, s => match z_nb c q w with
    | none => z_bW c q n (w + 1) s
    | some t => if s.1 t = none then z_bW c q n (w + 1) (z_bPut s q t) else z_bW c q n (w + 1) s
def z_bK (c : z_C) : Nat → Nat → z_B → z_B
  | 0, _, s => s
  | n + 1, k, s => match s.2[k]? with
    | none => s
    | some q => z_bK c n (k + 1) (z_bW c q 4 0 s)
def z_b0 (p : Nat) : z_B := (fun y => if y = p then some 0 else none, [p])
def z_far (c : z_C) (p : Nat) : Nat → Option Nat := (z_bK c (z_size c + 1) 0 (z_b0 p)).1
def z_bI (c : z_C) (s : z_B) : Prop := (∀ t, s.1 t ≠ none → t ∈ s.2) ∧ (∀ t, t ∈ s.2 → t < z_size c ∧ s.1 t ≠ none) ∧ s.2.Nodup ∧ ∀ t m, s.1 t = some m → m < s.2.length
theorem z_pigeon : ∀ (n : Nat) (xs : List Nat), xs.Nodup → (∀ y ∈ xs, y < n) → xs.length ≤ n := by
  intro n
  induction n with
  | zero =>
    intro xs _ h
    cases xs with
    | nil => exact Nat.le_refl _
    | cons y ys => have := h y (List.mem_cons_self ..); omega
  | succ n ih =>
    intro xs hn h
    by_cases hm : n ∈ xs
    · have h1 := List.length_erase_of_mem hm
      have h2 := ih (xs.erase n) (hn.erase n) (fun y hy => by
        have h3 := (List.Nodup.mem_erase_iff hn).mp hy
        have := h y h3.2
        have := h3.1
        omega)
      omega
    · have h2 := ih xs hn (fun y hy => by
        have := h y hy
        have : y ≠ n := fun e => hm (e ▸ hy)
        omega)
      omega
theorem z_bI.len {c : z_C} {s : z_B} (h : z_bI c s) : s.2.length ≤ z_size c := z_pigeon _ _ h.2.2.1 (fun y hy => (h.2.1 y hy).1)
theorem z_bI.put {c : z_C} {s : z_B} (h : z_bI c s) {q t : Nat} (hq : q ∈ s.2) (ht : s.1 t = none) (htl : t < z_size c) : z_bI c (z_bPut s q t) := by
  obtain ⟨h1, h2, h3, h4⟩ := h
  have hnt : t ∉ s.2 := fun z => (h2 t z).2 ht
  obtain ⟨m, hm⟩ := Option.ne_none_iff_exists'.mp (h2 q hq).2
  have hml := h4 q m hm
  refine ⟨fun y hy => ?_, fun y hy => ?_, ?_, fun y m' hy => ?_⟩
  · show y ∈ s.2 ++ [t]
    by_cases e : y = t
    · rw [e]; simp
    · have hy : (if y = t then (s.1 q).map (· + 1) else s.1 y) ≠ none := hy
      rw [if_neg e] at hy
      exact List.mem_append_left _ (h1 y hy)
  · show y < z_size c ∧ (if y = t then (s.1 q).map (· + 1) else s.1 y) ≠ none
    rcases List.mem_append.mp hy with hy | hy
    · have hne : y ≠ t := fun e => hnt (e ▸ hy)
      rw [if_neg hne]
      exact h2 y hy
    · rw [List.mem_singleton.mp hy, if_pos rfl, hm]
      exact ⟨htl, fun z => by cases z⟩
  · show (s.2 ++ [t]).Nodup
    rw [List.nodup_append]
    exact ⟨h3, by simp, fun a ha b hb e => hnt (by rw [List.mem_singleton.mp hb] at e; rw [← e]; exact ha)⟩
  · show m' < (s.2 ++ [t]).length
    rw [List.length_append]
    have hy : (if y = t then (s.1 q).map (· + 1) else s.1 y) = some m' := hy
    simp only [List.length_cons, List.length_nil]
    split at hy
    · rw [hm] at hy
      have hy : some (m + 1) = some m' := hy
      cases hy
      omega
    · have := h4 y m' hy
      omega
theorem z_bI0 {c : z_C} {p : Nat} (hp : p < z_size c) : z_bI c (z_b0 p) := by
  refine ⟨fun t ht => ?_, fun t ht => ?_, by simp [z_b0], fun t m ht => ?_⟩
  · have ht : (if t = p then some 0 else none) ≠ none := ht
    by_cases e : t = p
    · rw [e]; exact List.mem_singleton.mpr rfl
    · rw [if_neg e] at ht; exact absurd rfl ht
  · rw [List.mem_singleton.mp ht]
    exact ⟨hp, by show (if p = p then some 0 else none) ≠ none; rw [if_pos rfl]; exact fun z => by cases z⟩
  · have ht : (if t = p then some 0 else none) = some m := ht
    split at ht
    · cases ht; exact Nat.zero_lt_one
    · cases ht
theorem z_bW_inv {c : z_C} (hs : z_small c) {q : Nat} (hq : q < z_size c) : ∀ (n w : Nat) (s : z_B), w + n = 4 → z_bI c s → q ∈ s.2 → z_bI c (z_bW c q n w s) ∧ (∀ i y : Nat, s.2[i]? = some y → (z_bW c q n w s).2[i]? = some y) := by
  intro n
  induction n with
  | zero => intro w s _ h _; exact ⟨h, fun _ _ z => z⟩
  | succ n ih =>
    intro w s hw h hqs
    rw [z_bW]
    split
    · exact ih (w + 1) s (by omega) h hqs
    · rename_i t ht
      have htl : t < z_size c := z_by_lt hs hq ((z_by_n (show w < 4 by omega)).trans ht)
      split
      · rename_i hn
        obtain ⟨h1, h2⟩ := ih (w + 1) (z_bPut s q t) (by omega) (h.put hqs hn htl) (List.mem_append_left _ hqs)
        exact ⟨h1, fun i y hi => h2 i y (by show (s.2 ++ [t])[i]? = some y; rw [List.getElem?_append_left (List.getElem?_eq_some_iff.mp hi).1]; exact hi)⟩
      · exact ih (w + 1) s (by omega) h hqs
theorem z_bK_inv {c : z_C} (hs : z_small c) : ∀ (n k : Nat) (s : z_B), z_bI c s → z_bI c (z_bK c n k s) := by
  intro n
  induction n with
  | zero => intro k s h; exact h
  | succ n ih =>
    intro k s h
    rw [z_bK]
    split
    · exact h
    · rename_i q hq
      have hqm := List.mem_of_getElem? hq
      exact ih (k + 1) _ (z_bW_inv hs (h.2.1 q hqm).1 4 0 s rfl h hqm).1
theorem z_far_lt {c : z_C} (hs : z_small c) {p t m : Nat} (hp : p < z_size c) (h : z_far c p t = some m) : m < z_size c := by
  have hI := z_bK_inv hs (z_size c + 1) 0 (z_b0 p) (z_bI0 hp)
  have := hI.2.2.2 t m h
  have := hI.len
  omega
section FA
variable {l : Launch} {G : w_G} {M : w_M} {E : Nat → Prop} {x bl ba tx ca : Nat} {sv : Option Nat} {bas : List Nat} {S : z_S} {P : Nat → Prop} {kd rl ol sg ra oa : Nat} {ras oas : List Nat}
/-- what a search has in the memory -/
def z_bst (c : z_C) (M N : w_M) (da qa : Nat) (s : z_B) : Prop := ∃ f g : Nat → Int32, N.get da = some (.inl (.int, z_size c, .inl f)) ∧ N.get qa = some (.inl (.int, z_size c, .inl g)) ∧ w_fr M N (fun _ => False) ∧ (∀ t, t < z_size c → f t = z_enc (s.1 t)) ∧ ∀ i y, s.2[i]? = some y → g i = nI y
theorem sp_distancesFrom (h : z_sysL G M E x bl ba tx ca sv bas S) (hL : z_coreL G M P ca kd rl ol sg ra oa ras oas (z_cur S)) (hs : z_small (z_cur S)) {p : Nat} (hp : p < z_size (z_cur S)) : w_S l G tX1_distancesFrom (4, 2, 96) [.ref x, .int (nI p)] M (w_rA (fun r N => w_fr M N (fun _ => False) ∧ ∃ f : Nat → Int32, N.get r = some (.inl (.int, z_size (z_cur S), .inl f)) ∧ ∀ t, t < z_size (z_cur S) → f t = z_enc (z_far (z_cur S) p t))) := by
  have hg := h.2.1
  have hgc0 := hL.2.1
  have hsz := hs.size
  refine w_start (by decide) (Nat.le_of_ble_eq_true rfl) (fun X => ?_)
  refine wa_locals [(0, _), (1, _)] [0, 1] rfl ?_
  have LW : ∀ (da qa : Nat) (_ : M.sz ≤ da) (_ : M.sz ≤ qa) (_ : da ≠ qa) (q k : Nat) (_ : q < z_size (z_cur S))
      (K : ∀ (v : Int32) (N : w_M) (s : z_B), z_bI (z_cur S) s → z_bst (z_cur S) M N da qa s → s = z_bW (z_cur S) q 0 4 s → True),
      ∀ (n w : Nat) (N : w_M) (s : z_B) (fs : z_B), w + n = 4 → z_bI (z_cur S) s → s.2[k]? = some q → z_bst (z_cur S) M N da qa s → z_bW (z_cur S) q n w s = fs →
      (∀ (N : w_M) (v1 v2 : Int32), z_bI (z_cur S) fs → z_bst (z_cur S) M N da qa fs → w_A l G tX1_distancesFrom (4, 2, 96) X 2 96 N 127 [(6, .int v1), (5, .int (nI k)), (4, .int (nI fs.2.length)), (3, .ref qa), (2, .ref da), (0, .ref x)] [] (w_rA (fun r N => w_fr M N (fun _ => False) ∧ ∃ f : Nat → Int32, N.get r = some (.inl (.int, z_size (z_cur S), .inl f)) ∧ ∀ t, t < z_size (z_cur S) → f t = z_enc (z_far (z_cur S) p t)))) →
      w_A l G tX1_distancesFrom (4, 2, 96) X 2 96 N 65 [(6, .int (nI w)), (5, .int (nI k)), (4, .int (nI s.2.length)), (3, .ref qa), (2, .ref da), (0, .ref x)] [] (w_rA (fun r N => w_fr M N (fun _ => False) ∧ ∃ f : Nat → Int32, N.get r = some (.inl (.int, z_size (z_cur S), .inl f)) ∧ ∀ t, t < z_size (z_cur S) → f t = z_enc (z_far (z_cur S) p t))) := by
    intro da qa hdaM hqaM hdq q k hqs _ n
    induction n with
    | zero =>
      intro w N s fs hn hI hk hst hfs K
      have hw : w = 4 := by omega
      subst hw
      have e : s = fs := hfs
      subst e
      refine wa_iload 0 dX1_distancesFrom_65 rfl ?_
      refine wa_iconst (4) dX1_distancesFrom_67 (by decide) ?_
      refine wa_icmp_ge 127 dX1_distancesFrom_68 rfl (fun c68 => ?_) (fun c68 => absurd (by decide) c68)
      exact K N _ 0 hI hst
    | succ n ih =>
      intro w N s fs hn hI hk hst hfs K
      obtain ⟨f, g, hda, hqa, hfr, hf, hgg⟩ := id hst
      have hcN := hL.keep (W := fun _ => False) hfr (fun _ _ z => z) (fun z => z)
      have hgc := hcN.2.1
      have hgN := hfr.2 _ _ hg id
      have hklt := (List.getElem?_eq_some_iff.mp hk).1
      have hlen := hI.len
      have hxl : ∀ t, z_nb (z_cur S) q w = some t → t < z_size (z_cur S) := fun t ht => z_by_lt hs hqs ((z_by_n (show w < 4 by omega)).trans ht)
      have hxm := z_enc_m1 (g := z_nb (z_cur S) q w) (fun t ht => by have := hxl t ht; omega)
      have hqm := List.mem_of_getElem? hk
      obtain ⟨m, hm⟩ := Option.ne_none_iff_exists'.mp (hI.2.1 q hqm).2
      have hml := hI.2.2.2 q m hm
      rw [z_bW] at hfs
      refine wa_iload 0 dX1_distancesFrom_65 rfl ?_
      refine wa_iconst (4) dX1_distancesFrom_67 (by decide) ?_
      refine wa_icmp_ge 127 dX1_distancesFrom_68 rfl (fun c68 => absurd c68 (nI_lt_not (b := 4) (by omega) (by decide))) (fun c68 => ?_)
      refine wa_aload_n 5 dX1_distancesFrom_71 rfl rfl ?_
      refine wa_getf dX1_distancesFrom_72 gX1_14 hgN rfl ?_
      refine wa_aload_n 3 dX1_distancesFrom_75 rfl rfl ?_
      refine wa_iload 1 dX1_distancesFrom_76 rfl ?_
      refine wa_iald dX1_distancesFrom_78 hqa (vp_in_nI (by omega) (by omega)) ?_
      rw [nI_clamp (by omega), hgg k q hk]
      refine wa_iload 0 dX1_distancesFrom_79 rfl ?_
      refine wc_isI (wr_V dX1_distancesFrom_81 mX1_175 (sp_nb hcN hs hqs (by omega)) hgc rfl (w_fit_mk (by (try dsimp only); omega) (by (try dsimp only); omega) rfl) rfl (Nat.le_of_ble_eq_true rfl)) ?_
      refine wa_istore [(7, _), (6, _), (5, _), (4, _), (3, _), (2, _), (0, _)] dX1_distancesFrom_84 (Nat.le_of_ble_eq_true rfl) rfl ?_
      refine wa_iload 0 dX1_distancesFrom_86 rfl ?_
      refine wa_iconst (-1) dX1_distancesFrom_88 (by decide) ?_
      refine wa_icmp_eq 121 dX1_distancesFrom_89 rfl (fun c89 => ?_) (fun c89 => ?_)
      ·
        refine wa_iinc 1 [(6, _), (7, _), (5, _), (4, _), (3, _), (2, _), (0, _)] dX1_distancesFrom_121 rfl (w_inc w) (Nat.le_of_ble_eq_true rfl) rfl ?_
        refine wa_goto 65 dX1_distancesFrom_124 rfl ?_
        refine wa_locals [(6, _), (5, _), (4, _), (3, _), (2, _), (0, _)] [0, 2, 3, 4, 5, 6] rfl ?_
        have i1 := hxm.mp c89
        simp only [i1] at hfs
        exact ih (w + 1) N s fs (by omega) hI hk hst hfs K
      ·
        obtain ⟨t, ht⟩ : ∃ t, z_nb (z_cur S) q w = some t := Option.ne_none_iff_exists'.mp (fun z => c89 (hxm.mpr z))
        have htl := hxl t ht
        rw [show z_enc (z_nb (z_cur S) q w) = nI t by rw [ht]; rfl]
        simp only [ht] at hfs
        have htm := z_enc_m1 (g := s.1 t) (fun j e => by have := hI.2.2.2 t j e; omega)
        refine wa_aload_n 5 dX1_distancesFrom_92 rfl rfl ?_
        refine wa_iload 0 dX1_distancesFrom_93 rfl ?_
        refine wa_iald dX1_distancesFrom_95 hda (vp_in_nI htl (by omega)) ?_
        rw [nI_clamp (by omega), hf t htl]
        refine wa_iconst (-1) dX1_distancesFrom_96 (by decide) ?_
        refine wa_icmp_ne 121 dX1_distancesFrom_97 rfl (fun c97 => ?_) (fun c97 => ?_)
        ·
          refine wa_iinc 1 [(6, _), (7, _), (5, _), (4, _), (3, _), (2, _), (0, _)] dX1_distancesFrom_121 rfl (w_inc w) (Nat.le_of_ble_eq_true rfl) rfl ?_
          refine wa_goto 65 dX1_distancesFrom_124 rfl ?_
          refine wa_locals [(6, _), (5, _), (4, _), (3, _), (2, _), (0, _)] [0, 2, 3, 4, 5, 6] rfl ?_
          rw [if_neg (fun z => c97 (htm.mpr z))] at hfs
          exact ih (w + 1) N s fs (by omega) hI hk hst hfs K
        ·
          have hn0 : s.1 t = none := htm.mp c97
          have hI2 := hI.put hqm hn0 htl
          have hlen2 : s.2.length + 1 ≤ z_size (z_cur S) := by have := hI2.len; rw [show (z_bPut s q t).2.length = s.2.length + 1 from List.length_append] at this; exact this
          rw [if_pos hn0] at hfs
          refine wa_aload_n 5 dX1_distancesFrom_100 rfl rfl ?_
          refine wa_iload 0 dX1_distancesFrom_101 rfl ?_
          refine wa_aload_n 5 dX1_distancesFrom_103 rfl rfl ?_
          refine wa_aload_n 4 dX1_distancesFrom_104 rfl rfl ?_
          refine wa_iload 2 dX1_distancesFrom_105 rfl ?_
          refine wa_iald dX1_distancesFrom_107 hqa (vp_in_nI (by omega) (by omega)) ?_
          rw [nI_clamp (by omega), hgg k q hk]
          refine wa_iald dX1_distancesFrom_108 hda (vp_in_nI hqs (by omega)) ?_
          rw [nI_clamp (by omega), hf q hqs, hm]
          refine wa_iconst (1) dX1_distancesFrom_109 (by decide) ?_
          refine wa_iadd dX1_distancesFrom_110 ?_
          rw [show z_enc (some m) + 1 = nI (m + 1) from nI_1 m]
          refine wa_iast dX1_distancesFrom_111 hda (vp_in_nI htl (by omega)) ?_
          rw [nI_clamp (by omega)]
          refine wa_aload_n 4 dX1_distancesFrom_112 rfl rfl ?_
          refine wa_iload 3 dX1_distancesFrom_113 rfl ?_
          refine wa_iload 0 dX1_distancesFrom_115 rfl ?_
          refine wa_iast dX1_distancesFrom_117 (w_sne hqa hdq.symm) (vp_in_nI (by omega) (by omega)) ?_
          rw [nI_clamp (by omega)]
          refine wa_iinc 3 [(4, _), (7, _), (6, _), (5, _), (3, _), (2, _), (0, _)] dX1_distancesFrom_118 rfl (w_inc _) (Nat.le_of_ble_eq_true rfl) rfl ?_
          refine wa_iinc 2 [(6, _), (4, _), (7, _), (5, _), (3, _), (2, _), (0, _)] dX1_distancesFrom_121 rfl (w_inc w) (Nat.le_of_ble_eq_true rfl) rfl ?_
          refine wa_goto 65 dX1_distancesFrom_124 rfl ?_
          refine wa_locals [(6, _), (5, _), (4, _), (3, _), (2, _), (0, _)] [0, 3, 1, 4, 5, 6] rfl ?_
          have hst2 : z_bst (z_cur S) M ((N.set da (.inl (.int, z_size (z_cur S), .inl (upd f t (nI (m + 1)))))).set qa (.inl (.int, z_size (z_cur S), .inl (upd g s.2.length (nI t))))) da qa (z_bPut s q t) := by
            refine ⟨_, _, w_sne (w_set_self hda) hdq, w_set_self (w_sne hqa hdq.symm), (hfr.setN hdaM).setN hqaM, fun y hy => ?_, fun i y hi => ?_⟩
            · show upd f t (nI (m + 1)) y = z_enc (if y = t then (s.1 q).map (· + 1) else s.1 y)
              by_cases e : y = t
              · subst e
                rw [if_pos rfl, hm]
                exact if_pos rfl
              · rw [if_neg e, show upd f t (nI (m + 1)) y = f y from if_neg e]
                exact hf y hy
            · have hi : (s.2 ++ [t])[i]? = some y := hi
              by_cases e : i = s.2.length
              · subst e
                rw [List.getElem?_append_right (Nat.le_refl _), Nat.sub_self] at hi
                cases hi
                exact if_pos rfl
              · have hlt : i < s.2.length := by have := (List.getElem?_eq_some_iff.mp hi).1; rw [List.length_append] at this; simp only [List.length_cons, List.length_nil] at this; omega
                rw [List.getElem?_append_left hlt] at hi
                rw [show upd g s.2.length (nI t) i = g i from if_neg e]
                exact hgg i y hi
          have hh := ih (w + 1) _ (z_bPut s q t) fs (by omega) hI2 (by show (s.2 ++ [t])[k]? = some q; rw [List.getElem?_append_left hklt]; exact hk) hst2 hfs K
          rw [show (z_bPut s q t).2.length = s.2.length + 1 from List.length_append] at hh
          exact hh
  have LK : ∀ (da qa : Nat) (_ : M.sz ≤ da) (_ : M.sz ≤ qa) (_ : da ≠ qa) (n k : Nat) (N : w_M) (s : z_B), k + n = z_size (z_cur S) + 1 → k ≤ s.2.length → z_bI (z_cur S) s → z_bst (z_cur S) M N da qa s → (z_bK (z_cur S) n k s).1 = z_far (z_cur S) p → w_A l G tX1_distancesFrom (4, 2, 96) X 2 96 N 55 [(5, .int (nI k)), (4, .int (nI s.2.length)), (3, .ref qa), (2, .ref da), (0, .ref x)] [] (w_rA (fun r N => w_fr M N (fun _ => False) ∧ ∃ f : Nat → Int32, N.get r = some (.inl (.int, z_size (z_cur S), .inl f)) ∧ ∀ t, t < z_size (z_cur S) → f t = z_enc (z_far (z_cur S) p t))) := by
    intro da qa hdaM hqaM hdq n
    induction n with
    | zero =>
      intro k N s hn hk hI hst he
      have := hI.len
      omega
    | succ n ih =>
      intro k N s hn hk hI hst he
      obtain ⟨f, g, hda, hqa, hfr, hf, hgg⟩ := id hst
      have hcN := hL.keep (W := fun _ => False) hfr (fun _ _ z => z) (fun z => z)
      have hgc := hcN.2.1
      have hgN := hfr.2 _ _ hg id
      have hlen := hI.len
      rw [z_bK] at he
      refine wa_iload 0 dX1_distancesFrom_55 rfl ?_
      refine wa_iload 1 dX1_distancesFrom_57 rfl ?_
      refine wa_icmp_ge 133 dX1_distancesFrom_59 rfl (fun c59 => ?_) (fun c59 => ?_)
      ·
        have hk2 : s.2[k]? = none := List.getElem?_eq_none (by have := (nI_leI (a := s.2.length) (b := k) (by omega) (by omega)).mp c59; omega)
        rw [hk2] at he
        refine wa_aload_n 3 dX1_distancesFrom_133 rfl rfl ?_
        refine wa_aret (FieldType.array FieldType.int) dX1_distancesFrom_134 rfl rfl (Nat.le_of_ble_eq_true rfl) (Nat.le_of_ble_eq_true rfl) ?_
        exact ⟨_, rfl, hfr, f, hda, fun t ht => by rw [hf t ht, ← he]⟩
      ·
        have hk2 : k < s.2.length := Classical.byContradiction fun z => c59 (nI_le (by omega) (by omega))
        obtain ⟨q, hq⟩ : ∃ q, s.2[k]? = some q := ⟨_, List.getElem?_eq_getElem hk2⟩
        have hqm := List.mem_of_getElem? hq
        have hqs := (hI.2.1 q hqm).1
        obtain ⟨hI2, hpre⟩ := z_bW_inv hs hqs 4 0 s rfl hI hqm
        rw [hq] at he
        refine wa_iconst (0) dX1_distancesFrom_62 (by decide) ?_
        refine wa_istore [(6, _), (5, _), (4, _), (3, _), (2, _), (0, _)] dX1_distancesFrom_63 (Nat.le_of_ble_eq_true rfl) rfl ?_
        refine LW da qa hdaM hqaM hdq q k hqs (fun _ _ _ _ _ _ => trivial) 4 0 N s _ rfl hI hq hst rfl (fun N2 v1 v2 hI3 hst3 => ?_)
        refine wa_iinc 1 [(5, _), (6, _), (4, _), (3, _), (2, _), (0, _)] dX1_distancesFrom_127 rfl (w_inc k) (Nat.le_of_ble_eq_true rfl) rfl ?_
        refine wa_goto 55 dX1_distancesFrom_130 rfl ?_
        refine wa_locals [(5, _), (4, _), (3, _), (2, _), (0, _)] [0, 2, 3, 4, 5] rfl ?_
        exact ih (k + 1) N2 _ (by omega) (by have := (List.getElem?_eq_some_iff.mp (hpre k q hq)).1; omega) hI3 hst3 he
  have LI : ∀ (da qa : Nat) (_ : M.sz ≤ da) (_ : M.sz ≤ qa) (_ : da ≠ qa) (n i : Nat) (N : w_M) (f : Nat → Int32), i + n = z_size (z_cur S) → N.get da = some (.inl (.int, z_size (z_cur S), .inl f)) → N.get qa = some (.inl (.int, z_size (z_cur S), .inl (fun _ => 0))) → w_fr M N (fun _ => False) → (∀ t, t < i → f t = -1) → w_A l G tX1_distancesFrom (4, 2, 96) X 2 96 N 23 [(4, .int (nI i)), (3, .ref qa), (2, .ref da), (0, .ref x), (1, .int (nI p))] [] (w_rA (fun r N => w_fr M N (fun _ => False) ∧ ∃ f : Nat → Int32, N.get r = some (.inl (.int, z_size (z_cur S), .inl f)) ∧ ∀ t, t < z_size (z_cur S) → f t = z_enc (z_far (z_cur S) p t))) := by
    intro da qa hdaM hqaM hdq n
    induction n with
    | zero =>
      intro i N f hn hda hqa hfr hf
      refine wa_iload 0 dX1_distancesFrom_23 rfl ?_
      refine wa_aload_n 2 dX1_distancesFrom_25 rfl rfl ?_
      refine wa_alen 0 dX1_distancesFrom_26 hda rfl ?_
      refine wa_icmp_ge 41 dX1_distancesFrom_27 rfl (fun c27 => ?_) (fun c27 => absurd (nI_le (by omega) (by omega)) c27)
      refine wa_aload_n 2 dX1_distancesFrom_41 rfl rfl ?_
      refine wa_iload_n 4 dX1_distancesFrom_42 rfl rfl ?_
      refine wa_iconst (0) dX1_distancesFrom_43 (by decide) ?_
      refine wa_iast dX1_distancesFrom_44 hda (vp_in_nI hp (by omega)) ?_
      rw [nI_clamp (by omega)]
      refine wa_aload_n 1 dX1_distancesFrom_45 rfl rfl ?_
      refine wa_iconst (0) dX1_distancesFrom_46 (by decide) ?_
      refine wa_iload_n 4 dX1_distancesFrom_47 rfl rfl ?_
      refine wa_iast dX1_distancesFrom_48 (w_sne hqa hdq.symm) (vp_in_nI (n := 0) (by omega) (by omega)) ?_
      rw [show (0 : Int32).toNatClampNeg = 0 from rfl]
      refine wa_iconst (1) dX1_distancesFrom_49 (by decide) ?_
      refine wa_istore [(4, _), (3, _), (2, _), (0, _), (1, _)] dX1_distancesFrom_50 (Nat.le_of_ble_eq_true rfl) rfl ?_
      refine wa_iconst (0) dX1_distancesFrom_52 (by decide) ?_
      refine wa_istore [(5, _), (4, _), (3, _), (2, _), (0, _), (1, _)] dX1_distancesFrom_53 (Nat.le_of_ble_eq_true rfl) rfl ?_
      refine wa_locals [(5, _), (4, _), (3, _), (2, _), (0, _)] [0, 1, 2, 3, 4] rfl ?_
      refine LK da qa hdaM hqaM hdq (z_size (z_cur S) + 1) 0 _ (z_b0 p) (Nat.zero_add _) (Nat.zero_le _) (z_bI0 hp) ⟨_, _, w_sne (w_set_self hda) hdq, w_set_self (w_sne hqa hdq.symm), (hfr.setN hdaM).setN hqaM, fun t ht => ?_, fun j y hj => ?_⟩ rfl
      · show upd f p 0 t = z_enc (if t = p then some 0 else none)
        by_cases e : t = p
        · rw [if_pos e]; exact if_pos e
        · rw [if_neg e, show upd f p 0 t = f t from if_neg e]
          exact hf t (by omega)
      · have hj1 : j < 1 := (List.getElem?_eq_some_iff.mp hj).1
        rw [show j = 0 by omega] at hj ⊢
        cases hj
        exact if_pos rfl
    | succ n ih =>
      intro i N f hn hda hqa hfr hf
      refine wa_iload 0 dX1_distancesFrom_23 rfl ?_
      refine wa_aload_n 2 dX1_distancesFrom_25 rfl rfl ?_
      refine wa_alen 0 dX1_distancesFrom_26 hda rfl ?_
      refine wa_icmp_ge 41 dX1_distancesFrom_27 rfl (fun c27 => absurd c27 (nI_lt_not (by omega) (by omega))) (fun c27 => ?_)
      refine wa_aload_n 2 dX1_distancesFrom_30 rfl rfl ?_
      refine wa_iload 0 dX1_distancesFrom_31 rfl ?_
      refine wa_iconst (-1) dX1_distancesFrom_33 (by decide) ?_
      refine wa_iast dX1_distancesFrom_34 hda (vp_in_nI (by omega) (by omega)) ?_
      rw [nI_clamp (by omega)]
      refine wa_iinc 0 [(4, _), (3, _), (2, _), (0, _), (1, _)] dX1_distancesFrom_35 rfl (w_inc i) (Nat.le_of_ble_eq_true rfl) rfl ?_
      refine wa_goto 23 dX1_distancesFrom_38 rfl ?_
      refine ih (i + 1) _ (upd f i (-1)) (by omega) (w_set_self hda) (w_sne hqa hdq.symm) (hfr.setN hdaM) (fun t ht => ?_)
      by_cases e : t = i
      · exact if_pos e
      · rw [show upd f i (-1) t = f t from if_neg e]
        exact hf t (by omega)
  refine wa_aload_n 0 dX1_distancesFrom_0 rfl rfl ?_
  refine wa_getf dX1_distancesFrom_1 gX1_14 hg rfl ?_
  refine wc_isI (wr_V dX1_distancesFrom_4 mX1_163 (sp_C_size hL) hgc0 rfl (w_fit_mk (by (try dsimp only); omega) (by (try dsimp only); omega) rfl) rfl (Nat.le_of_ble_eq_true rfl)) ?_
  refine wa_newi (z_size (z_cur S)) dX1_distancesFrom_7 q160 rfl (by omega) (by (try dsimp only); omega) (by (try dsimp only); omega) ?_
  refine wa_astore_n [(2, _), (0, _), (1, _)] dX1_distancesFrom_9 rfl (Nat.le_of_ble_eq_true rfl) rfl ?_
  refine wa_aload_n 1 dX1_distancesFrom_10 rfl rfl ?_
  refine wa_getf dX1_distancesFrom_11 gX1_14 (w_push_old hg) rfl ?_
  refine wc_isI (wr_V dX1_distancesFrom_14 mX1_163 (sp_C_size (hL.keep (W := fun _ => False) w_fr.rf.push (fun _ _ z => z) (fun z => z))) (w_push_old hgc0) rfl (w_fit_mk (by (try dsimp only); omega) (by (try dsimp only); omega) rfl) rfl (Nat.le_of_ble_eq_true rfl)) ?_
  refine wa_newi (z_size (z_cur S)) dX1_distancesFrom_17 q160 rfl (by omega) (by (try dsimp only); omega) (by (try dsimp only); omega) ?_
  refine wa_pad (k' := 2) (n' := 96) (by (try dsimp only); omega) (by (try dsimp only); omega) ?_
  refine wa_astore_n [(3, _), (2, _), (0, _), (1, _)] dX1_distancesFrom_19 rfl (Nat.le_of_ble_eq_true rfl) rfl ?_
  refine wa_iconst (0) dX1_distancesFrom_20 (by decide) ?_
  refine wa_istore [(4, _), (3, _), (2, _), (0, _), (1, _)] dX1_distancesFrom_21 (Nat.le_of_ble_eq_true rfl) rfl ?_
  refine wa_locals [(4, _), (3, _), (2, _), (0, _), (1, _)] [0, 1, 2, 3, 4] rfl ?_
  exact LI M.sz (M.sz + 1) (Nat.le_refl _) (Nat.le_succ _) (Nat.ne_of_lt (Nat.lt_succ_self _)) _ 0 _ _ (Nat.zero_add _) (w_push_old w_push_self) w_push_self w_fr.rf.push.push (fun t ht => absurd ht (Nat.not_lt_zero t))
end FA
