/-! LAYER 2: the system's tables: keys, piles, find -/
theorem lgc_eq {a b : Int64} : lg_cmp a b = 0 ↔ a = b := by
  simp only [lg_cmp]
  by_cases h : a = b
  · simp [h]
  · simp [h]
    split <;> simp
theorem lgc_lt {a b : Int64} : lg_cmp a b < 0 ↔ a < b := by
  simp only [lg_cmp]
  by_cases h : b < a
  · rw [if_pos h]; exact ⟨fun q => absurd q (by decide), fun q => by lia⟩
  · by_cases e : a = b
    · rw [if_neg h, if_pos e]; exact ⟨fun q => absurd q (by decide), fun q => by lia⟩
    · rw [if_neg h, if_neg e]; exact ⟨fun _ => by lia, fun _ => by decide⟩
theorem lgc_gt {a b : Int64} : 0 < lg_cmp a b ↔ b < a := by
  simp only [lg_cmp]
  by_cases h : b < a
  · rw [if_pos h]; exact ⟨fun q => h, fun q => by decide⟩
  · by_cases e : a = b
    · rw [if_neg h, if_pos e]; exact ⟨fun q => absurd q (by decide), fun q => by lia⟩
    · rw [if_neg h, if_neg e]; exact ⟨fun q => absurd q (by decide), fun q => by lia⟩
theorem lgc_le {a b : Int64} : lg_cmp a b ≤ 0 ↔ a ≤ b := by
  have := @lgc_gt a b
  constructor
  · intro h
    by_cases c : b < a
    · have := this.mpr c; lia
    · lia
  · intro h
    by_cases c : 0 < lg_cmp a b
    · have := this.mp c; lia
    · lia
theorem lgc_ge {a b : Int64} : 0 ≤ lg_cmp a b ↔ b ≤ a := by
  have := @lgc_lt a b
  constructor
  · intro h
    by_cases c : a < b
    · have := this.mpr c; lia
    · lia
  · intro h
    by_cases c : lg_cmp a b < 0
    · have := this.mp c; lia
    · lia
/-- a good string -/
def gs (σ : mS) (h : Int32) : Prop := x_sv σ h ∧ x_hs σ h ∧ (12000 ≤ h → h < sF σ 134)
/-- strings of texts differ -/
def dst (σ : mS) : Prop := ∀ a b, 12000 ≤ a → 12000 ≤ b → gs σ a → gs σ b → x_eq σ a b → a = b
theorem TX_dst {σ : mS} {sl : Int32 → Int32} (H : TX σ sl) : dst σ := fun a b a0 b0 ha hb e => H.2.2.2.2.2.2.2.2.2.2.1 a b a0 (ha.2.2 a0) b0 (hb.2.2 b0) e
theorem xeq_rfl {σ : mS} {a : Int32} : x_eq σ a a := ⟨rfl, fun _ _ _ => rfl⟩
theorem xeq_sym {σ : mS} {a b : Int32} (h : x_eq σ a b) : x_eq σ b a := ⟨h.1.symm, fun k k0 k1 => (h.2 k k0 (by rw [← h.1]; exact k1)).symm⟩
theorem xeq_tr {σ : mS} {a b c : Int32} (h : x_eq σ a b) (h' : x_eq σ b c) : x_eq σ a c := ⟨h'.1.trans h.1, fun k k0 k1 => (h.2 k k0 k1).trans (h'.2 k k0 (by rw [h.1]; exact k1))⟩
/-- keys that may be -/
def k_ok (σ : mS) (t : Int32) (k : Int64) : Prop := 1 ≤ t ∧ t ≤ 7 ∧ (t < 3 → k = 0) ∧ (t = 4 → gs σ k.toInt32)
/-- keys that are the same -/
def k_eq (σ : mS) (t : Int32) (k : Int64) (t' : Int32) (k' : Int64) : Prop := t = t' ∧ (if t = 4 then x_eq σ k.toInt32 k'.toInt32 else k = k')
theorem keq_rfl {σ : mS} {t : Int32} {k : Int64} : k_eq σ t k t k := ⟨rfl, by split; exact xeq_rfl; rfl⟩
theorem keq_sym {σ : mS} {t t' : Int32} {k k' : Int64} (h : k_eq σ t k t' k') : k_eq σ t' k' t k := by
  obtain ⟨rfl, h⟩ := h
  refine ⟨rfl, ?_⟩
  by_cases c : t = 4
  · rw [if_pos c] at h ⊢; exact xeq_sym h
  · rw [if_neg c] at h ⊢; exact h.symm
theorem keq_tr {σ : mS} {t t' t'' : Int32} {k k' k'' : Int64} (h : k_eq σ t k t' k') (g : k_eq σ t' k' t'' k'') : k_eq σ t k t'' k'' := by
  obtain ⟨rfl, h⟩ := h
  obtain ⟨rfl, g⟩ := g
  refine ⟨rfl, ?_⟩
  by_cases c : t = 4
  · rw [if_pos c] at h g ⊢; exact xeq_tr h g
  · rw [if_neg c] at h g ⊢; exact h.trans g
def pil (t : Int32) (x : Int64) : Int32 := (Int64.toInt32 (((((x * (-7046029254386353131 : Int64)) + ((Int32.toInt64 t) * (40503 : Int64)))).toUInt64 >>> ((Int32.toInt64 ((40 : Int32))).toUInt64 &&& Int64.toUInt64 63)).toInt64)) &&& (32767 : Int32)
theorem and_32767 {a : Int32} : 0 ≤ a &&& 32767 ∧ a &&& 32767 < 32768 := by
  have h : (a &&& 32767).toInt = ((a.toBitVec.toNat % 32768 : Nat) : Int) := by
    rw [← Int32.toInt_toBitVec, Int32.toBitVec_and]
    have : (a.toBitVec &&& (32767 : Int32).toBitVec).toNat = a.toBitVec.toNat % 32768 := by
      rw [BitVec.toNat_and]
      exact Nat.and_two_pow_sub_one_eq_mod _ 15
    rw [BitVec.toInt_eq_toNat_of_lt (by rw [this]; omega), this]
  rw [tI_le, tI_lt, h]
  have h1 : (0 : Int32).toInt = 0 := rfl
  have h2 : (32768 : Int32).toInt = 32768 := rfl
  omega
def pilf (σ : mS) (t tag : Int32) (key : Int64) : Int32 := if tag = 4 then pil t (Int32.toInt64 (sI σ 130 key.toInt32)) else pil t (key * 8 + Int32.toInt64 tag)
theorem pilf_rng {σ : mS} {t tag : Int32} {key : Int64} : 0 ≤ pilf σ t tag key ∧ pilf σ t tag key < 32768 := by
  simp only [pilf]
  split <;> exact and_32767
theorem pile_x {N : Nat} {σ : mS} {t tag : Int32} {key : Int64} (h : k_ok σ tag key) : xx3_pile N σ t tag key = some (pilf σ t tag key, σ) := by
  by_cases c : tag = 4
  · obtain ⟨⟨g1, g2, _⟩, _⟩ := h.2.2.2 c
    simp (disch := lia) only [xx3_pile, xx3_pile_b27, lt, gd_in, if_pos, if_neg, ↓reduceIte, gd_z0, gd_z1, gd_tt, sF_fold, sG_fold, sI_fold, sJ_fold, pilf, c]
    rfl
  · simp (disch := lia) only [xx3_pile, xx3_pile_b27, lt, gd_in, if_pos, if_neg, ↓reduceIte, gd_z0, gd_z1, gd_tt, sF_fold, sG_fold, sI_fold, sJ_fold, pilf, c]
    rfl
theorem pilf_eq {σ : mS} {t tag tag' : Int32} {key key' : Int64} (h : k_ok σ tag key) (h' : k_ok σ tag' key') (e : k_eq σ tag key tag' key') : pilf σ t tag key = pilf σ t tag' key' := by
  obtain ⟨rfl, e⟩ := e
  simp only [pilf]
  by_cases c : tag = 4
  · rw [if_pos c] at e ⊢
    rw [if_pos c]
    have g := h.2.2.2 c
    have g' := h'.2.2.2 c
    rw [hs_eq g.1.2.2.2.1 g.2.1 g'.2.1 e]
  · rw [if_neg c] at e ⊢
    rw [if_neg c, e]
theorem isKey_x {N : Nat} (hN : BIG ≤ N) {σ : mS} (hd : dst σ) {e tag : Int32} {key : Int64} (e0 : 0 ≤ e) (e1 : e < 20000) (he : k_ok σ (sI σ 212 e) (sJ σ 213 e)) (hk : k_ok σ tag key) : ∃ r : Int32, xx3_isKey N σ e tag key = some (r, σ) ∧ (r = 1 ∨ r = 0) ∧ (r = 1 ↔ k_eq σ (sI σ 212 e) (sJ σ 213 e) tag key) := by
  by_cases c : sI σ 212 e = tag
  · by_cases d : tag = 4
    · have g := he.2.2.2 (c.trans d)
      have g' := hk.2.2.2 d
      obtain ⟨r, r1, r2, r3⟩ := same_x hN g.1 g'.1 g.2.1 g'.2.1 (fun a b q => hd _ _ a b g g' q)
      refine ⟨r, ?_, r2, r3.trans ⟨fun q => ⟨c, by rw [if_pos (c.trans d)]; exact q⟩, fun q => by have := q.2; rw [if_pos (c.trans d)] at this; exact this⟩⟩
      simp (disch := lia) only [xx3_isKey, lt, gd_in, if_pos, if_neg, ↓reduceIte, gd_z0, gd_z1, gd_tt, sF_fold, sG_fold, sI_fold, sJ_fold, c, d, r1, bd, xx3_isKey_b57]
      rcases r2 with r2 | r2
      · rw [r2]; rfl
      · rw [r2]; rfl
    · by_cases f : tag < 3
      · refine ⟨1, ?_, .inl rfl, fun _ => ⟨c, ?_⟩, fun _ => rfl⟩
        · simp (disch := lia) only [xx3_isKey, lt, gd_in, if_pos, if_neg, ↓reduceIte, gd_z0, gd_z1, gd_tt, sF_fold, sG_fold, sI_fold, sJ_fold, c, d, xx3_isKey_b57, xx3_isKey_b52]
        · rw [if_neg (by rw [c]; exact d), hk.2.2.1 f, he.2.2.1 (by rw [c]; exact f)]
      · by_cases g : sJ σ 213 e = key
        · refine ⟨1, ?_, .inl rfl, fun _ => ⟨c, by rw [if_neg (by rw [c]; exact d)]; exact g⟩, fun _ => rfl⟩
          simp (disch := lia) only [xx3_isKey, lt, gd_in, if_pos, if_neg, ↓reduceIte, gd_z0, gd_z1, gd_tt, sF_fold, sG_fold, sI_fold, sJ_fold, c, d, xx3_isKey_b57, xx3_isKey_b52, lgc_eq, g]
        · refine ⟨0, ?_, .inr rfl, fun q => absurd q (by decide), fun q => ?_⟩
          · simp (disch := lia) only [xx3_isKey, lt, gd_in, if_pos, if_neg, ↓reduceIte, gd_z0, gd_z1, gd_tt, sF_fold, sG_fold, sI_fold, sJ_fold, c, d, xx3_isKey_b57, xx3_isKey_b52, lgc_eq, g]
          · have := q.2
            rw [if_neg (by rw [c]; exact d)] at this
            exact absurd this g
  · refine ⟨0, ?_, .inr rfl, fun q => absurd q (by decide), fun q => absurd q.1 c⟩
    simp (disch := lia) only [xx3_isKey, lt, gd_in, if_pos, if_neg, ↓reduceIte, gd_z0, gd_z1, gd_tt, sF_fold, sG_fold, sI_fold, sJ_fold, c]
/-- tables in use, their entries in order, the piles -/
def FX (σ : mS) (ts : List Int32) (es ps : Int32 → List Int32) : Prop := (∀ t, t ∈ ts → ∀ e, e ∈ es t → 0 ≤ e ∧ e < 20000 ∧ sI σ 216 e = t ∧ k_ok σ (sI σ 212 e) (sJ σ 213 e)) ∧ (∀ p, 0 ≤ p → p < 32768 → seg (sI σ 218) (sI σ 221 p) (ps p) (-1) ∧ (ps p).Nodup ∧ ∀ e, e ∈ ps p ↔ (∃ t, t ∈ ts ∧ e ∈ es t) ∧ pilf σ (sI σ 216 e) (sI σ 212 e) (sJ σ 213 e) = p) ∧ (∀ t, t ∈ ts → ∀ e e', e ∈ es t → e' ∈ es t → k_eq σ (sI σ 212 e) (sJ σ 213 e) (sI σ 212 e') (sJ σ 213 e') → e = e')
/-- what find gives: the entry of a key, or -1 -/
def fd (σ : mS) (l : List Int32) (tag : Int32) (key : Int64) (r : Int32) : Prop := (r ∈ l ∧ k_eq σ (sI σ 212 r) (sJ σ 213 r) tag key) ∨ (r = -1 ∧ ∀ e, e ∈ l → ¬ k_eq σ (sI σ 212 e) (sJ σ 213 e) tag key)
theorem nd_len {M : Nat} : ∀ (l : List Int32), l.Nodup → (∀ x, x ∈ l → 0 ≤ x ∧ x.toInt < M) → l.length ≤ M := by
  intro l nd h
  have hp := pigeon M l.length (fun i => (l.getD i 0).toNatClampNeg) (fun i hi => ?_) (fun i j hij hj e => ?_)
  · exact hp
  · have : l.getD i 0 ∈ l := by rw [List.getD_eq_getElem?_getD, List.getElem?_eq_getElem hi]; exact List.getElem_mem hi
    have w := h _ this
    have w1 := w.1
    rw [tI_le] at w1
    have z : (0 : Int32).toInt = 0 := rfl
    simp only [tI_cl]
    omega
  · have hi : i < l.length := by omega
    have m1 : l.getD i 0 ∈ l := by rw [List.getD_eq_getElem?_getD, List.getElem?_eq_getElem hi]; exact List.getElem_mem hi
    have m2 : l.getD j 0 ∈ l := by rw [List.getD_eq_getElem?_getD, List.getElem?_eq_getElem hj]; exact List.getElem_mem hj
    have := cl_inj (h _ m1).1 (h _ m2).1 e
    rw [List.getD_eq_getElem?_getD, List.getElem?_eq_getElem hi, List.getD_eq_getElem?_getD, List.getElem?_eq_getElem hj] at this
    simp only [Option.getD_some] at this
    exact absurd ((List.getElem_inj nd).mp this) (by omega)
theorem find_lp {N : Nat} (hN : BIG ≤ N) {σ : mS} (hd : dst σ) {ts : List Int32} {es ps : Int32 → List Int32} {t tag : Int32} {key : Int64} (H : FX σ ts es ps) (hk : k_ok σ tag key) : ∀ (l : List Int32) (n : Nat) (x : Int32), l.length < n → seg (sI σ 218) x l (-1) → (∀ e, e ∈ l → ∃ t, t ∈ ts ∧ e ∈ es t) → ∃ r, xx3_find_b14 N n t tag key x σ = some (r, σ) ∧ ((r ∈ l ∧ sI σ 216 r = t ∧ k_eq σ (sI σ 212 r) (sJ σ 213 r) tag key) ∨ (r = -1 ∧ ∀ e, e ∈ l → sI σ 216 e = t → ¬ k_eq σ (sI σ 212 e) (sJ σ 213 e) tag key))
  | [], n, x, hn, hs, _ => by
    obtain ⟨n, rfl⟩ : ∃ j, n = j + 1 := ⟨n - 1, by simp at hn; omega⟩
    have : x = -1 := hs
    subst this
    exact ⟨-1, by rw [xx3_find_b14, if_pos rfl]; rfl, .inr ⟨rfl, fun e he => absurd he (by simp)⟩⟩
  | y :: l, n, x, hn, hs, hl => by
    obtain ⟨n, rfl⟩ : ∃ j, n = j + 1 := ⟨n - 1, by simp at hn; omega⟩
    obtain ⟨e, hs'⟩ := hs
    subst e
    obtain ⟨r, ih1, ih2⟩ := find_lp hN hd H hk (t := t) l n (sI σ 218 x) (by simp at hn; omega) hs' (fun e he => hl e (List.mem_cons_of_mem _ he))
    obtain ⟨t', ht', hx⟩ := hl x List.mem_cons_self
    obtain ⟨x0, x1, x2, x3⟩ := H.1 t' ht' x hx
    clear hl
    have skip : (sI σ 216 x = t → ¬ k_eq σ (sI σ 212 x) (sJ σ 213 x) tag key) → (r ∈ x :: l ∧ sI σ 216 r = t ∧ k_eq σ (sI σ 212 r) (sJ σ 213 r) tag key) ∨ (r = -1 ∧ ∀ e, e ∈ x :: l → sI σ 216 e = t → ¬ k_eq σ (sI σ 212 e) (sJ σ 213 e) tag key) := by
      intro hx
      rcases ih2 with ⟨a, b⟩ | ⟨a, b⟩
      · exact .inl ⟨List.mem_cons_of_mem _ a, b⟩
      · refine .inr ⟨a, fun e he he' => ?_⟩
        rcases List.mem_cons.mp he with q | q
        · subst q; exact hx he'
        · exact b e q he'
    rw [xx3_find_b14]
    by_cases c : sI σ 216 x = t
    · obtain ⟨k, k1, k2, k3⟩ := isKey_x hN hd x0 x1 x3 hk
      by_cases d : k = 0
      · refine ⟨r, ?_, skip (fun _ q => by rw [k3.mpr q] at d; exact absurd d (by decide))⟩
        simp (disch := lia) only [lt, gd_in, if_pos, if_neg, ↓reduceIte, gd_z0, gd_z1, gd_tt, sF_fold, sG_fold, sI_fold, sJ_fold, c, k1, bd, d, xx3_find_b42]
        exact ih1
      · refine ⟨x, ?_, .inl ⟨List.mem_cons_self, c, k3.mp (k2.resolve_right d)⟩⟩
        simp (disch := lia) only [lt, gd_in, if_pos, if_neg, ↓reduceIte, gd_z0, gd_z1, gd_tt, sF_fold, sG_fold, sI_fold, sJ_fold, c, k1, bd, d, xx3_find_b54]
    · refine ⟨r, ?_, skip (fun q => absurd q c)⟩
      simp (disch := lia) only [lt, gd_in, if_pos, if_neg, ↓reduceIte, gd_z0, gd_z1, gd_tt, sF_fold, sG_fold, sI_fold, sJ_fold, c, xx3_find_b42]
      exact ih1
theorem find_x {N : Nat} (hN : BIG ≤ N) {σ : mS} (hd : dst σ) {ts : List Int32} {es ps : Int32 → List Int32} {t tag : Int32} {key : Int64} (H : FX σ ts es ps) (ht : t ∈ ts) (hk : k_ok σ tag key) : ∃ r, xx3_find N σ t tag key = some (r, σ) ∧ fd σ (es t) tag key r := by
  obtain ⟨p0, p1⟩ := @pilf_rng σ t tag key
  obtain ⟨q1, q2, q3⟩ := H.2.1 _ p0 p1
  have hr : ∀ e, e ∈ ps (pilf σ t tag key) → 0 ≤ e ∧ e < 20000 := fun e he => by
    obtain ⟨⟨t', w1, w2⟩, _⟩ := (q3 e).mp he
    exact ⟨(H.1 t' w1 e w2).1, (H.1 t' w1 e w2).2.1⟩
  have len := nd_len (M := 20000) _ q2 (fun x hx => ⟨(hr x hx).1, by have := (hr x hx).2; rw [tI_lt] at this; exact this⟩)
  obtain ⟨r, r1, r2⟩ := find_lp hN hd H hk (t := t) _ N _ (by simp only [BIG] at hN; omega) q1 (fun e he => ((q3 e).mp he).1)
  refine ⟨r, ?_, ?_⟩
  · simp (disch := lia) only [xx3_find, pile_x hk, bd, lt, gd_in, if_pos, if_neg, ↓reduceIte, gd_z0, gd_z1, gd_tt, sF_fold, sG_fold, sI_fold, sJ_fold]
    exact r1
  · rcases r2 with ⟨a, b, c⟩ | ⟨a, b⟩
    · left
      obtain ⟨⟨t', w1, w2⟩, _⟩ := (q3 r).mp a
      have := (H.1 t' w1 r w2).2.2.1
      rw [b] at this
      subst this
      exact ⟨w2, c⟩
    · refine .inr ⟨a, fun e he k => b e ((q3 e).mpr ⟨⟨t, ht, he⟩, ?_⟩) (H.1 t ht e he).2.2.1 k⟩
      rw [(H.1 t ht e he).2.2.1]
      exact pilf_eq (H.1 t ht e he).2.2.2 hk k
theorem live_x {N : Nat} (hN : BIG ≤ N) {σ : mS} (hd : dst σ) {ts : List Int32} {es ps : Int32 → List Int32} {t tag : Int32} {key : Int64} (H : FX σ ts es ps) (ht : t ∈ ts) (hk : k_ok σ tag key) : ∃ r, xx3_live N σ t tag key = some (r, σ) ∧ ((r ∈ es t ∧ k_eq σ (sI σ 212 r) (sJ σ 213 r) tag key ∧ sI σ 214 r ≠ 0) ∨ (r = -1 ∧ ∀ e, e ∈ es t → k_eq σ (sI σ 212 e) (sJ σ 213 e) tag key → sI σ 214 e = 0)) := by
  obtain ⟨r, r1, r2⟩ := find_x hN hd H ht hk
  rcases r2 with ⟨a, b⟩ | ⟨a, b⟩
  · obtain ⟨x0, x1, x2, x3⟩ := H.1 t ht r a
    by_cases c : sI σ 214 r = 0
    · refine ⟨-1, ?_, .inr ⟨rfl, fun e he k => ?_⟩⟩
      · simp (disch := lia) only [xx3_live, r1, bd, lt, gd_in, if_pos, if_neg, ↓reduceIte, gd_z0, gd_z1, gd_tt, sF_fold, sG_fold, sI_fold, sJ_fold, xx3_live_b30, xx3_live_b31, c]
      · rw [H.2.2 t ht e r he a (keq_tr k (keq_sym b))]; exact c
    · refine ⟨r, ?_, .inl ⟨a, b, c⟩⟩
      simp (disch := lia) only [xx3_live, r1, bd, lt, gd_in, if_pos, if_neg, ↓reduceIte, gd_z0, gd_z1, gd_tt, sF_fold, sG_fold, sI_fold, sJ_fold, xx3_live_b30, xx3_live_b31, c]
  · refine ⟨-1, ?_, .inr ⟨rfl, fun e he k => absurd k (b e he)⟩⟩
    simp (disch := lia) only [xx3_live, r1, bd, lt, gd_in, if_pos, if_neg, ↓reduceIte, gd_z0, gd_z1, gd_tt, sF_fold, sG_fold, sI_fold, sJ_fold, xx3_live_b30, xx3_live_b31, a]
