/-! LAYER 2: the system's tables: length, noHoles -/
/-- the number k lives as a key -/
def lvn (σ : mS) (l : List Int32) (k : Int32) : Prop := ∃ e, e ∈ l ∧ sI σ 212 e = 3 ∧ sJ σ 213 e = Int32.toInt64 k ∧ sI σ 214 e ≠ 0
/-- what lies between 1 and the border and does not live (but for ke) is a hole -/
def hl1 (σ : mS) (l h : List Int32) (b ke : Int32) : Prop := ∀ k, 1 ≤ k → k ≤ b → k ≠ ke → ¬ lvn σ l k → ∃ x, x ∈ h ∧ sI σ 204 x = k
def lenE (σ : mS) (l : List Int32) (ke n : Int32) : Prop := 0 ≤ n ∧ (∀ k, 1 ≤ k → k ≤ n → k ≠ ke → lvn σ l k) ∧ ¬ lvn σ l (n + 1)
theorem mf_lvn {P : Nat → Bool} {σ τ : mS} (fr : m_fr P σ τ) (p1 : P 212 = false) (p2 : P 213 = false) (p3 : P 214 = false) {l : List Int32} {k : Int32} : lvn τ l k ↔ lvn σ l k := by
  simp only [lvn, mf_I fr p1, mf_J fr p2, mf_I fr p3]
theorem fU_fU {α : Type} {f : Int32 → α} {t : Int32} {v w : α} : fU (fU f t v) t w = fU f t w := by
  funext s
  simp only [fU]
  split <;> rfl
theorem fU_id {α : Type} {f : Int32 → α} {t : Int32} : fU f t (f t) = f := by
  funext s
  simp only [fU]
  split
  · rename_i h; rw [h]
  · rfl
theorem live3_x {N : Nat} (hN : BIG ≤ N) {σ : mS} (hd : dst σ) {ts : List Int32} {es ps : Int32 → List Int32} {t k : Int32} (F : FX σ ts es ps) (ht : t ∈ ts) : ∃ r, xx3_live N σ t 3 (Int32.toInt64 k) = some (r, σ) ∧ ((0 ≤ r ∧ r < 20000 ∧ lvn σ (es t) k) ∨ (r = -1 ∧ ¬ lvn σ (es t) k)) := by
  obtain ⟨r, r1, r2⟩ := live_x hN hd F ht (k3 (k := k))
  refine ⟨r, r1, ?_⟩
  rcases r2 with ⟨a, b, c⟩ | ⟨a, b⟩
  · have w := F.1 t ht r a
    rw [keq3] at b
    exact .inl ⟨w.1, w.2.1, r, a, b.1, b.2, c⟩
  · refine .inr ⟨a, fun ⟨e, e1, e2, e3, e4⟩ => e4 (b e e1 (by rw [keq3]; exact ⟨e2, e3⟩))⟩
theorem len_lp {N : Nat} (hN : BIG ≤ N) {ts : List Int32} {es ps : Int32 → List Int32} {t ke : Int32} (ht : t ∈ ts) : ∀ (n : Nat) (σ : mS) (hs : Int32 → List Int32) (fh : List Int32), dst σ → FX σ ts es ps → HS σ ts es hs fh → (hs t).length < n → 0 ≤ sI σ 201 t → sI σ 201 t ≤ 44000 → hl1 σ (es t) (hs t) (sI σ 201 t) ke → ¬ lvn σ (es t) (sI σ 201 t + 1) → ∃ m τ h' fh', xx3_length_b0 N n t σ = some (m, τ) ∧ lenE σ (es t) ke m ∧ m ≤ sI σ 201 t ∧ HS τ ts es (fU hs t h') fh' ∧ hl1 τ (es t) h' (sI σ 201 t) ke ∧ m_fr hU σ τ
  | 0, σ, hs, fh, hd, F, H, len, b0, b1, h1, h2 => absurd len (by omega)
  | n + 1, σ, hs, fh, hd, F, H, len, b0, b1, h1, h2 => by
    obtain ⟨t0, t1, ⟨nn, hpn⟩, cnt, nd, rg, ih⟩ := H.1 t ht
    by_cases c : sI σ 202 t = -1
    · rw [c] at hpn
      have e := hp_nil hpn
      refine ⟨sI σ 201 t, σ, hs t, fh, ?_, ⟨b0, fun k k0 k1 k2 => ?_, h2⟩, by lia, by rw [fU_id]; exact H, h1, mf_rfl⟩
      · clear H F h1 rg ih hpn
        rw [xx3_length_b0]
        simp (disch := lia) only [lt, gd_in, if_pos, if_neg, ↓reduceIte, gd_z0, gd_z1, gd_tt, sF_fold, sG_fold, sI_fold, sJ_fold, c, xx3_length_b60, xx3_length_b92]
      · apply Classical.byContradiction
        intro q
        obtain ⟨x, hx, _⟩ := h1 k k0 k1 k2 q
        rw [e] at hx
        exact absurd hx (by simp)
    · have mn := hp_min hpn c
      obtain ⟨x0, x1, x2⟩ := rg _ mn.1
      -- the least hole goes
      have pop : (sI σ 201 t < sI σ 204 (sI σ 202 t) ∨ lvn σ (es t) (sI σ 204 (sI σ 202 t))) → xx3_length_b0 N (n + 1) t σ = bd (xx3_unhole N σ t) (fun z => xx3_length_b0 N n t z) → ∃ m τ h' fh', xx3_length_b0 N (n + 1) t σ = some (m, τ) ∧ lenE σ (es t) ke m ∧ m ≤ sI σ 201 t ∧ HS τ ts es (fU hs t h') fh' ∧ hl1 τ (es t) h' (sI σ 201 t) ke ∧ m_fr hU σ τ := by
        intro why ex
        obtain ⟨τ, h', u1, u2, u3, u4⟩ := unhole_x hN hd F H ht c
        have lv : ∀ k, lvn τ (es t) k ↔ lvn σ (es t) k := fun k => mf_lvn u4 rfl rfl rfl
        have b' : sI τ 201 t = sI σ 201 t := mf_I u4 rfl
        have k' : ∀ x, sI τ 204 x = sI σ 204 x := fun x => mf_I u4 rfl
        have hlen := u2.length_eq
        rw [List.length_cons] at hlen
        obtain ⟨m, τ', h'', fh'', r1, r2, r3, r4, r5, r6⟩ := len_lp hN ht n τ (fU hs t h') _ ((mf_FX u4 ⟨rfl, rfl, rfl, rfl, rfl, rfl⟩).2.2 hd) (mf_FX2 u4 ⟨rfl, rfl, rfl, rfl, rfl, rfl⟩ ⟨rfl, rfl, rfl, rfl, rfl⟩ F) u3 (by rw [fU_s]; omega) (by rw [b']; exact b0) (by rw [b']; exact b1) (by
          rw [b', fU_s]
          intro k k0 k1 k2 q
          rw [lv] at q
          obtain ⟨x, hx, hk⟩ := h1 k k0 k1 k2 q
          refine ⟨x, ?_, by rw [k']; exact hk⟩
          rcases List.mem_cons.mp (u2.mem_iff.mp hx) with w | w
          · subst w
            rcases why with w | w
            · exfalso; lia
            · rw [hk] at w; exact absurd w q
          · exact w) (by rw [b', lv]; exact h2)
        rw [fU_fU] at r4
        rw [b'] at r3 r5
        refine ⟨m, τ', h'', fh'', ?_, ⟨r2.1, fun k k0 k1 k2 => (lv k).mp (r2.2.1 k k0 k1 k2), fun q => r2.2.2 ((lv _).mpr q)⟩, r3, r4, r5, mf_tr u4 r6⟩
        rw [ex, u1]
        exact r1
      by_cases d : sI σ 201 t < sI σ 204 (sI σ 202 t)
      · refine pop (.inl d) ?_
        clear pop H F h1 rg ih hpn mn
        rw [xx3_length_b0]
        simp (disch := lia) only [lt, gd_in, if_pos, if_neg, ↓reduceIte, gd_z0, gd_z1, gd_tt, sF_fold, sG_fold, sI_fold, sJ_fold, c, xx3_length_b52]
      · obtain ⟨r, l1, l2⟩ := live3_x hN hd F ht (k := sI σ 204 (sI σ 202 t))
        have pre : xx3_length_b0 N (n + 1) t σ = bd (xx3_live N σ t 3 (Int32.toInt64 (sI σ 204 (sI σ 202 t)))) (fun z2 => if z2.1 = -1 then xx3_length_b60 N t z2.2 else xx3_length_b52 N (xx3_length_b0 N n) t z2.2) := by
          clear pop H F h1 rg ih hpn mn l1 l2
          rw [xx3_length_b0]
          simp (disch := lia) only [gd_in, if_neg, sI_fold, c]
        rw [l1] at pre
        rcases l2 with ⟨l2, l3, l4⟩ | ⟨l2, l3⟩
        · refine pop (.inr l4) ?_
          rw [pre]
          have : r ≠ -1 := by lia
          simp only [bd, if_neg this, xx3_length_b52]
        · refine ⟨sI σ 204 (sI σ 202 t) - 1, σ, hs t, fh, ?_, ⟨by lia, fun k k0 k1 k2 => ?_, by rw [show sI σ 204 (sI σ 202 t) - 1 + 1 = sI σ 204 (sI σ 202 t) by lia]; exact l3⟩, by lia, by rw [fU_id]; exact H, h1, mf_rfl⟩
          · rw [pre]
            clear pop H F h1 rg ih hpn mn pre l1
            simp (disch := lia) only [bd, if_pos l2, xx3_length_b60, xx3_length_b92, lt, gd_in, if_pos, if_neg, ↓reduceIte, gd_z0, gd_z1, gd_tt, sF_fold, sG_fold, sI_fold, sJ_fold, c]
          · apply Classical.byContradiction
            intro q
            obtain ⟨x, hx, hk⟩ := h1 k k0 (by lia) k2 q
            have := mn.2 x hx
            lia
theorem length_e {N : Nat} (hN : BIG ≤ N) {σ : mS} {ts fh : List Int32} {es ps hs : Int32 → List Int32} {t ke : Int32} (ht : t ∈ ts) (hd : dst σ) (F : FX σ ts es ps) (H : HS σ ts es hs fh) (b0 : 0 ≤ sI σ 201 t) (b1 : sI σ 201 t ≤ 44000) (h1 : hl1 σ (es t) (hs t) (sI σ 201 t) ke) (h2 : ¬ lvn σ (es t) (sI σ 201 t + 1)) : ∃ m τ h' fh', xx3_length N σ t = some (m, τ) ∧ lenE σ (es t) ke m ∧ m ≤ sI σ 201 t ∧ HS τ ts es (fU hs t h') fh' ∧ hl1 τ (es t) h' (sI σ 201 t) ke ∧ m_fr hU σ τ := by
  obtain ⟨_, _, _, _, nd, rg, _⟩ := H.1 t ht
  have len := nd_len (M := 24000) _ nd (fun x hx => ⟨(rg x hx).1, by have := (rg x hx).2.1; rw [tI_lt] at this; exact this⟩)
  exact len_lp hN ht N σ hs fh hd F H (by simp only [BIG] at hN; omega) b0 b1 h1 h2
theorem nho_lp {N : Nat} (hN : BIG ≤ N) {ts : List Int32} {es ps : Int32 → List Int32} {t : Int32} (ht : t ∈ ts) : ∀ (n : Nat) (σ : mS) (hs : Int32 → List Int32) (fh : List Int32), dst σ → FX σ ts es ps → HS σ ts es hs fh → (hs t).length < n → ∃ τ fh', xx3_noHoles_b0 N n t σ = some τ ∧ HS τ ts es (fU hs t []) fh' ∧ m_fr hU σ τ
  | 0, σ, hs, fh, hd, F, H, len => absurd len (by omega)
  | n + 1, σ, hs, fh, hd, F, H, len => by
    obtain ⟨t0, t1, ⟨nn, hpn⟩, cnt, nd, rg, ih⟩ := H.1 t ht
    by_cases c : sI σ 202 t = -1
    · rw [c] at hpn
      have e := hp_nil hpn
      refine ⟨σ, fh, ?_, by rw [← e, fU_id]; exact H, mf_rfl⟩
      clear H F rg ih hpn
      rw [xx3_noHoles_b0]
      simp (disch := lia) only [lt, gd_in, if_pos, if_neg, ↓reduceIte, gd_z0, gd_z1, gd_tt, sF_fold, sG_fold, sI_fold, sJ_fold, c]
    · obtain ⟨τ, h', u1, u2, u3, u4⟩ := unhole_x hN hd F H ht c
      have hlen := u2.length_eq
      rw [List.length_cons] at hlen
      obtain ⟨τ', fh', r1, r2, r3⟩ := nho_lp hN ht n τ (fU hs t h') _ ((mf_FX u4 ⟨rfl, rfl, rfl, rfl, rfl, rfl⟩).2.2 hd) (mf_FX2 u4 ⟨rfl, rfl, rfl, rfl, rfl, rfl⟩ ⟨rfl, rfl, rfl, rfl, rfl⟩ F) u3 (by rw [fU_s]; omega)
      rw [fU_fU] at r2
      refine ⟨τ', fh', ?_, r2, mf_tr u4 r3⟩
      have ex : xx3_noHoles_b0 N (n + 1) t σ = bd (xx3_unhole N σ t) (fun z => xx3_noHoles_b0 N n t z) := by
        clear H F rg ih hpn u3 r2
        rw [xx3_noHoles_b0]
        simp (disch := lia) only [gd_in, if_neg, sI_fold, c]
      rw [ex, u1]
      exact r1
theorem noHoles_x {N : Nat} (hN : BIG ≤ N) {σ : mS} {ts fh : List Int32} {es ps hs : Int32 → List Int32} {t : Int32} (ht : t ∈ ts) (hd : dst σ) (F : FX σ ts es ps) (H : HS σ ts es hs fh) : ∃ τ fh', xx3_noHoles N σ t = some τ ∧ HS τ ts es (fU hs t []) fh' ∧ m_fr hU σ τ := by
  obtain ⟨_, _, _, _, nd, rg, _⟩ := H.1 t ht
  have len := nd_len (M := 24000) _ nd (fun x hx => ⟨(rg x hx).1, by have := (rg x hx).2.1; rw [tI_lt] at this; exact this⟩)
  exact nho_lp hN ht N σ hs fh hd F H (by simp only [BIG] at hN; omega)
