/-! LAYER 2: the reference's tables: keys, chains, find, get -/
def mgs (σ : mS) (h : Int32) : Prop := m_sv σ h ∧ m_hs σ h
theorem meq_rfl {σ : mS} {a : Int32} : m_eq σ a a := ⟨rfl, fun _ _ _ => rfl⟩
theorem meq_sym {σ : mS} {a b : Int32} (h : m_eq σ a b) : m_eq σ b a := ⟨h.1.symm, fun k k0 k1 => (h.2 k k0 (by rw [← h.1]; exact k1)).symm⟩
theorem meq_tr {σ : mS} {a b c : Int32} (h : m_eq σ a b) (h' : m_eq σ b c) : m_eq σ a c := ⟨h'.1.trans h.1, fun k k0 k1 => (h.2 k k0 k1).trans (h'.2 k k0 (by rw [h.1]; exact k1))⟩
def mk_ok (σ : mS) (t : Int32) (k : Int64) : Prop := 1 ≤ t ∧ t ≤ 6 ∧ (t = 3 → mgs σ k.toInt32)
def mk_eq (σ : mS) (t : Int32) (k : Int64) (t' : Int32) (k' : Int64) : Prop := t = t' ∧ (if t = 3 then m_eq σ k.toInt32 k'.toInt32 else k = k')
theorem mkeq_rfl {σ : mS} {t : Int32} {k : Int64} : mk_eq σ t k t k := ⟨rfl, by split; exact meq_rfl; rfl⟩
theorem mkeq_sym {σ : mS} {t t' : Int32} {k k' : Int64} (h : mk_eq σ t k t' k') : mk_eq σ t' k' t k := by
  obtain ⟨rfl, h⟩ := h
  refine ⟨rfl, ?_⟩
  by_cases c : t = 3
  · rw [if_pos c] at h ⊢; exact meq_sym h
  · rw [if_neg c] at h ⊢; exact h.symm
theorem mkeq_tr {σ : mS} {t t' t'' : Int32} {k k' k'' : Int64} (h : mk_eq σ t k t' k') (g : mk_eq σ t' k' t'' k'') : mk_eq σ t k t'' k'' := by
  obtain ⟨rfl, h⟩ := h
  obtain ⟨rfl, g⟩ := g
  refine ⟨rfl, ?_⟩
  by_cases c : t = 3
  · rw [if_pos c] at h g ⊢; exact meq_tr h g
  · rw [if_neg c] at h g ⊢; exact h.trans g
def chn (t y : Int32) : Int32 := (((y * (31 : Int32)) + (t * (9973 : Int32))) ^^^ ((((y * (31 : Int32)) + (t * (9973 : Int32)))).toUInt32 >>> (((15 : Int32)).toUInt32 &&& Int32.toUInt32 31)).toInt32) &&& (32767 : Int32)
def chf (σ : mS) (t ty : Int32) (k : Int64) : Int32 := if ty = 3 then chn t (sI σ 4 k.toInt32) else chn t (((Int64.toInt32 ((k ^^^ ((k).toUInt64 >>> ((Int32.toInt64 ((32 : Int32))).toUInt64 &&& Int64.toUInt64 63)).toInt64))) * (7 : Int32)) + ty)
theorem chf_rng {σ : mS} {t ty : Int32} {k : Int64} : 0 ≤ chf σ t ty k ∧ chf σ t ty k < 32768 := by
  simp only [chf]
  split <;> exact and_32767
theorem chainOf_m {N : Nat} {σ : mS} {t ty : Int32} {k : Int64} (h : mk_ok σ ty k) : mm_chainOf N σ t ty k = some (chf σ t ty k, σ) := by
  by_cases c : ty = 3
  · obtain ⟨⟨g1, g2, _⟩, _⟩ := h.2.2 c
    rw [mm_chainOf, if_pos c, gd_in (by decide) g1 g2, chf, if_pos c]
    rfl
  · rw [mm_chainOf, if_neg c, chf, if_neg c]
    rfl
theorem chf_eq {σ : mS} {t ty ty' : Int32} {k k' : Int64} (h : mk_ok σ ty k) (h' : mk_ok σ ty' k') (e : mk_eq σ ty k ty' k') : chf σ t ty k = chf σ t ty' k' := by
  obtain ⟨rfl, e⟩ := e
  simp only [chf]
  by_cases c : ty = 3
  · rw [if_pos c] at e ⊢
    rw [if_pos c]
    have g := h.2.2 c
    have g' := h'.2.2 c
    rw [mhs_eq g.1.2.2.2.1 g.2 g'.2 e]
  · rw [if_neg c] at e ⊢
    rw [if_neg c, e]
theorem isSame_m {N : Nat} (hN : BIG ≤ N) {σ : mS} {t ty : Int32} {k k' : Int64} (hk : t = 3 → mgs σ k.toInt32) (hk' : ty = 3 → mgs σ k'.toInt32) : ∃ r : Int32, mm_isSame N σ t k ty k' = some (r, σ) ∧ (r = 1 ∨ r = 0) ∧ (r = 1 ↔ mk_eq σ t k ty k') := by
  by_cases c : t = ty
  · by_cases d : t = 3
    · have g := hk d
      have g' := hk' (c ▸ d)
      obtain ⟨r, r1, r2, r3⟩ := alike_m hN g.1 g'.1 g.2 g'.2
      by_cases e : r = 0
      · refine ⟨0, ?_, .inr rfl, fun q => absurd q (by decide), fun q => ?_⟩
        · rw [mm_isSame, if_pos c, if_pos d, r1]
          simp only [bd, if_pos e, mm_isSame_37, mm_isSame_38]
          rfl
        · have := q.2
          rw [if_pos d] at this
          rw [r3.mpr this] at e
          exact absurd e (by decide)
      · refine ⟨1, ?_, .inl rfl, fun _ => ⟨c, by rw [if_pos d]; exact r3.mp (r2.resolve_right e)⟩, fun _ => rfl⟩
        rw [mm_isSame, if_pos c, if_pos d, r1]
        simp only [bd, if_neg e, mm_isSame_33, mm_isSame_38]
        rfl
    · by_cases e : k = k'
      · refine ⟨1, ?_, .inl rfl, fun _ => ⟨c, by rw [if_neg d]; exact e⟩, fun _ => rfl⟩
        rw [mm_isSame, if_pos c, if_neg d, if_pos (lgc_eq.mpr e)]; rfl
      · refine ⟨0, ?_, .inr rfl, fun q => absurd q (by decide), fun q => ?_⟩
        · rw [mm_isSame, if_pos c, if_neg d, if_neg (fun q => e (lgc_eq.mp q))]; rfl
        · have := q.2
          rw [if_neg d] at this
          exact absurd this e
  · refine ⟨0, ?_, .inr rfl, fun q => absurd q (by decide), fun q => absurd q.1 c⟩
    rw [mm_isSame, if_neg c]; rfl
/-- tables in use, their entries in order, the chains -/
def FM (σ : mS) (ts : List Int32) (es ps : Int32 → List Int32) : Prop := (∀ t, t ∈ ts → ∀ e, e ∈ es t → 0 ≤ e ∧ e < 20000 ∧ sI σ 31 e = t ∧ mk_ok σ (sI σ 32 e) (sJ σ 33 e)) ∧ (∀ p, 0 ≤ p → p < 32768 → seg (fun e => sI σ 37 e - 1) (sI σ 38 p - 1) (ps p) (-1) ∧ (ps p).Nodup ∧ ∀ e, e ∈ ps p ↔ (∃ t, t ∈ ts ∧ e ∈ es t) ∧ chf σ (sI σ 31 e) (sI σ 32 e) (sJ σ 33 e) = p) ∧ (∀ t, t ∈ ts → ∀ e e', e ∈ es t → e' ∈ es t → mk_eq σ (sI σ 32 e) (sJ σ 33 e) (sI σ 32 e') (sJ σ 33 e') → e = e')
def fdm (σ : mS) (l : List Int32) (ty : Int32) (k : Int64) (r : Int32) : Prop := (r ∈ l ∧ mk_eq σ (sI σ 32 r) (sJ σ 33 r) ty k) ∨ (r = -1 ∧ ∀ e, e ∈ l → ¬ mk_eq σ (sI σ 32 e) (sJ σ 33 e) ty k)
theorem mfind_lp {N : Nat} (hN : BIG ≤ N) {σ : mS} {ts : List Int32} {es ps : Int32 → List Int32} {t ty : Int32} {k : Int64} (H : FM σ ts es ps) (hk : mk_ok σ ty k) : ∀ (l : List Int32) (n : Nat) (x : Int32), l.length < n → seg (fun e => sI σ 37 e - 1) x l (-1) → (∀ e, e ∈ l → ∃ t, t ∈ ts ∧ e ∈ es t) → ∃ r, mm_find_16 N n t ty k x σ = some (r, σ) ∧ ((r ∈ l ∧ sI σ 31 r = t ∧ mk_eq σ (sI σ 32 r) (sJ σ 33 r) ty k) ∨ (r = -1 ∧ ∀ e, e ∈ l → sI σ 31 e = t → ¬ mk_eq σ (sI σ 32 e) (sJ σ 33 e) ty k))
  | [], n, x, hn, hs, _ => by
    obtain ⟨n, rfl⟩ : ∃ j, n = j + 1 := ⟨n - 1, by simp at hn; omega⟩
    have : x = -1 := hs
    subst this
    exact ⟨-1, by rw [mm_find_16, if_pos (by decide)]; rfl, .inr ⟨rfl, fun e he => absurd he (by simp)⟩⟩
  | y :: l, n, x, hn, hs, hl => by
    obtain ⟨n, rfl⟩ : ∃ j, n = j + 1 := ⟨n - 1, by simp at hn; omega⟩
    obtain ⟨e, hs'⟩ := hs
    subst e
    obtain ⟨r, ih1, ih2⟩ := mfind_lp hN H hk (t := t) l n (sI σ 37 x - 1) (by simp at hn; omega) hs' (fun e he => hl e (List.mem_cons_of_mem _ he))
    obtain ⟨t', ht', hx⟩ := hl x List.mem_cons_self
    obtain ⟨x0, x1, x2, x3⟩ := H.1 t' ht' x hx
    clear hl
    have skip : (sI σ 31 x = t → ¬ mk_eq σ (sI σ 32 x) (sJ σ 33 x) ty k) → (r ∈ x :: l ∧ sI σ 31 r = t ∧ mk_eq σ (sI σ 32 r) (sJ σ 33 r) ty k) ∨ (r = -1 ∧ ∀ e, e ∈ x :: l → sI σ 31 e = t → ¬ mk_eq σ (sI σ 32 e) (sJ σ 33 e) ty k) := by
      intro hx
      rcases ih2 with ⟨a, b⟩ | ⟨a, b⟩
      · exact .inl ⟨List.mem_cons_of_mem _ a, b⟩
      · refine .inr ⟨a, fun e he he' => ?_⟩
        rcases List.mem_cons.mp he with q | q
        · subst q; exact hx he'
        · exact b e q he'
    have nx : ¬ x < 0 := by lia
    by_cases c : sI σ 31 x = t
    · obtain ⟨k', k1, k2, k3⟩ := isSame_m hN (t := sI σ 32 x) (ty := ty) x3.2.2 hk.2.2 (k := sJ σ 33 x) (k' := k)
      have pre : mm_find_16 N (n + 1) t ty k x σ = bd (mm_isSame N σ (sI σ 32 x) (sJ σ 33 x) ty k) (fun z2 => if z2.1 = 0 then mm_find_55 N (mm_find_16 N n) t ty k x z2.2 else mm_find_69 N x z2.2) := by
        rw [mm_find_16, if_neg nx, gd_in (by decide) x0 x1, sI_fold, if_pos c, gd_in (by decide) x0 x1, gd_in (by decide) x0 x1]
        rfl
      rw [pre, k1]
      by_cases d : k' = 0
      · refine ⟨r, ?_, skip (fun _ q => by rw [k3.mpr q] at d; exact absurd d (by decide))⟩
        simp only [bd, if_pos d, mm_find_55]
        rw [gd_in (by decide) x0 x1]
        exact ih1
      · refine ⟨x, ?_, .inl ⟨List.mem_cons_self, c, k3.mp (k2.resolve_right d)⟩⟩
        simp only [bd, if_neg d, mm_find_69]
    · refine ⟨r, ?_, skip (fun q => absurd q c)⟩
      rw [mm_find_16, if_neg nx, gd_in (by decide) x0 x1, sI_fold, if_neg c, mm_find_55, gd_in (by decide) x0 x1]
      exact ih1
theorem find_m {N : Nat} (hN : BIG ≤ N) {σ : mS} {ts : List Int32} {es ps : Int32 → List Int32} {t ty : Int32} {k : Int64} (H : FM σ ts es ps) (ht : t ∈ ts) (hk : mk_ok σ ty k) : ∃ r, mm_find N σ t ty k = some (r, σ) ∧ fdm σ (es t) ty k r := by
  obtain ⟨p0, p1⟩ := @chf_rng σ t ty k
  obtain ⟨q1, q2, q3⟩ := H.2.1 _ p0 p1
  have hr : ∀ e, e ∈ ps (chf σ t ty k) → 0 ≤ e ∧ e < 20000 := fun e he => by
    obtain ⟨⟨t', w1, w2⟩, _⟩ := (q3 e).mp he
    exact ⟨(H.1 t' w1 e w2).1, (H.1 t' w1 e w2).2.1⟩
  have len := nd_len (M := 20000) _ q2 (fun x hx => ⟨(hr x hx).1, by have := (hr x hx).2; rw [tI_lt] at this; exact this⟩)
  obtain ⟨r, r1, r2⟩ := mfind_lp hN H hk (t := t) _ N _ (by simp only [BIG] at hN; omega) q1 (fun e he => ((q3 e).mp he).1)
  refine ⟨r, ?_, ?_⟩
  · rw [mm_find, chainOf_m hk]
    simp only [bd]
    rw [gd_in (by decide) p0 p1]
    exact r1
  · rcases r2 with ⟨a, b, c⟩ | ⟨a, b⟩
    · left
      obtain ⟨⟨t', w1, w2⟩, _⟩ := (q3 r).mp a
      have := (H.1 t' w1 r w2).2.2.1
      rw [b] at this
      subst this
      exact ⟨w2, c⟩
    · refine .inr ⟨a, fun e he k => b e ((q3 e).mpr ⟨⟨t, ht, he⟩, ?_⟩) (H.1 t ht e he).2.2.1 k⟩
      rw [(H.1 t ht e he).2.2.1]
      exact chf_eq (H.1 t ht e he).2.2.2 hk k
/-- what get leaves: the type and the value that were got -/
def gt (σ : mS) (a : Int32) (b : Int64) : mS := md_pl (md_pi σ 42 a) 43 b
theorem get_m0 {N : Nat} {σ : mS} {t : Int32} {k : Int64} : mm_get N σ t 0 k = some (gt σ 0 0) := rfl
theorem get_m {N : Nat} (hN : BIG ≤ N) {σ : mS} {ts : List Int32} {es ps : Int32 → List Int32} {t ty : Int32} {k : Int64} (H : FM σ ts es ps) (ht : t ∈ ts) (hk : mk_ok σ ty k) : (∃ e, e ∈ es t ∧ mk_eq σ (sI σ 32 e) (sJ σ 33 e) ty k ∧ mm_get N σ t ty k = some (gt σ (sI σ 34 e) (sJ σ 35 e))) ∨ ((∀ e, e ∈ es t → ¬ mk_eq σ (sI σ 32 e) (sJ σ 33 e) ty k) ∧ mm_get N σ t ty k = some (gt σ 0 0)) := by
  obtain ⟨r, r1, r2⟩ := find_m hN H ht hk
  have nz : ty ≠ 0 := by have := hk.1; lia
  rcases r2 with ⟨a, b⟩ | ⟨a, b⟩
  · left
    obtain ⟨x0, x1, _⟩ := H.1 t ht r a
    refine ⟨r, a, b, ?_⟩
    rw [mm_get, if_neg nz, r1]
    simp only [bd, mm_get_15, if_pos x0, mm_get_34, lt, mm_get_54]
    rw [gd_in (by decide) x0 x1, gd_in (by decide) x0 x1]
    rfl
  · right
    refine ⟨b, ?_⟩
    rw [mm_get, if_neg nz, r1, a]
    rfl
