/-! LAYER 2: the system's tables: put, what comes last -/
theorem le64 {a b : Int32} : Int32.toInt64 a ≤ Int32.toInt64 b ↔ a ≤ b := by
  rw [Int64.le_iff_toInt_le, Int32.toInt_toInt64, Int32.toInt_toInt64, tI_le]
theorem lt64 {a b : Int32} : Int32.toInt64 a < Int32.toInt64 b ↔ a < b := by
  rw [Int64.lt_iff_toInt_lt, Int32.toInt_toInt64, Int32.toInt_toInt64, tI_lt]
theorem back64 {k : Int64} {a b : Int32} (h : Int32.toInt64 a ≤ k) (h' : k ≤ Int32.toInt64 b) : Int32.toInt64 k.toInt32 = k ∧ a ≤ k.toInt32 ∧ k.toInt32 ≤ b := by
  rw [Int64.le_iff_toInt_le, Int32.toInt_toInt64] at h h'
  have ra := tI_rng a
  have rb := tI_rng b
  have e : k.toInt32.toInt = k.toInt := by
    rw [Int64.toInt_toInt32]
    exact Int.bmod_eq_of_le (by omega) (by omega)
  refine ⟨?_, ?_, ?_⟩
  · apply Int64.toInt_inj.mp
    rw [Int32.toInt_toInt64, e]
  · rw [tI_le, e]; exact h
  · rw [tI_le, e]; exact h'
theorem nar_tag {t : Int32} (h0 : 0 ≤ t) (h1 : t ≤ 8) : vp_nar .byte (t.toInt8.toInt32) = t := by
  rcases (by lia : t = 0 ∨ t = 1 ∨ t = 2 ∨ t = 3 ∨ t = 4 ∨ t = 5 ∨ t = 6 ∨ t = 7 ∨ t = 8) with e | e | e | e | e | e | e | e | e <;> subst e <;> rfl
theorem cnt_flip {p q : Int32 → Bool} {e : Int32} : ∀ {l : List Int32}, l.Nodup → e ∈ l → (∀ x, x ∈ l → x ≠ e → q x = p x) → (l.filter q).length + (if p e then 1 else 0) = (l.filter p).length + (if q e then 1 else 0)
  | [], _, h, _ => absurd h (by simp)
  | x :: l, nd, h, c => by
    obtain ⟨n1, n2⟩ := List.nodup_cons.mp nd
    by_cases w : x = e
    · subst w
      have same : l.filter q = l.filter p := List.filter_congr (fun y hy => c y (List.mem_cons_of_mem _ hy) (fun z => n1 (by rw [← z]; exact hy)))
      simp only [List.filter_cons, same]
      cases p x <;> cases q x <;> simp
    · have hm : e ∈ l := by
        rcases List.mem_cons.mp h with z | z
        · exact absurd z.symm w
        · exact z
      have ih := cnt_flip n2 hm (fun y hy => c y (List.mem_cons_of_mem _ hy))
      have cx := c x List.mem_cons_self w
      simp only [List.filter_cons, cx]
      cases p x <;> simp <;> omega
theorem sum_upd {f : Int32 → Nat} {t : Int32} {v : Nat} : ∀ {ts : List Int32}, ts.Nodup → t ∈ ts → (ts.map (fU f t v)).sum + f t = (ts.map f).sum + v
  | [], _, h => absurd h (by simp)
  | x :: l, nd, h => by
    obtain ⟨n1, n2⟩ := List.nodup_cons.mp nd
    simp only [List.map_cons, List.sum_cons]
    by_cases w : x = t
    · subst w
      have : l.map (fU f x v) = l.map f := List.map_congr_left (fun y hy => fU_o (fun z => n1 (by rw [← z]; exact hy)))
      rw [this, fU_s]; omega
    · have hm : t ∈ l := by
        rcases List.mem_cons.mp h with z | z
        · exact absurd z.symm w
        · exact z
      have := sum_upd (f := f) (v := v) n2 hm
      rw [fU_o w]; omega
/-- entries of tables in order, those that are free, how many there are -/
def EX (σ : mS) (ts : List Int32) (es : Int32 → List Int32) (ff : List Int32) : Prop := ts.Nodup ∧ (∀ t, t ∈ ts → seg (sI σ 217) (sI σ 197 t) (es t) (-1) ∧ sI σ 198 t = (es t).getLastD (-1) ∧ (es t).Nodup ∧ (sI σ 199 t).toInt = (((es t).filter (alv σ)).length : Int) ∧ (sI σ 200 t).toInt = (((es t).filter (fun e => !alv σ e)).length : Int)) ∧ seg (sI σ 217) (sF σ 219) ff (-1) ∧ ff.Nodup ∧ (∀ e, e ∈ ff → 0 ≤ e ∧ e < 20000 ∧ ∀ t, t ∈ ts → e ∉ es t) ∧ (sF σ 220).toInt + ff.length = 20000 ∧ (sF σ 220).toInt = ((ts.map (fun t => (es t).length)).sum : Int)
def MX (σ : mS) (ts : List Int32) (es ps hs : Int32 → List Int32) (ff fh : List Int32) : Prop := FX σ ts es ps ∧ HS σ ts es hs fh ∧ (∀ t, t ∈ ts → HB σ (es t) (hs t) t) ∧ EX σ ts es ff
/-- as HB, but for a key that has changed just now -/
def HBx (σ : mS) (l h : List Int32) (t kt : Int32) (k : Int64) : Prop := 0 ≤ sI σ 201 t ∧ sI σ 201 t ≤ 44000 ∧ (∀ j, 1 ≤ j → j ≤ sI σ 201 t → ¬ (kt = 3 ∧ k = Int32.toInt64 j) → ¬ lvn σ l j → ∃ x, x ∈ h ∧ sI σ 204 x = j) ∧ (¬ (kt = 3 ∧ k = Int32.toInt64 (sI σ 201 t + 1)) → ¬ lvn σ l (sI σ 201 t + 1))
theorem mf_EX {P : Nat → Bool} {σ τ : mS} {ts : List Int32} {es : Int32 → List Int32} {ff : List Int32} (fr : m_fr P σ τ) (h : P 197 = false ∧ P 198 = false ∧ P 199 = false ∧ P 200 = false ∧ P 214 = false ∧ P 217 = false ∧ P 219 = false ∧ P 220 = false) (H : EX σ ts es ff) : EX τ ts es ff := by
  obtain ⟨p1, p2, p3, p4, p5, p6, p7, p8⟩ := h
  have al : alv τ = alv σ := by funext e; simp only [alv, mf_I fr p5]
  have i217 : sI τ 217 = sI σ 217 := by funext m; exact mf_I fr p6
  simp only [EX, al, i217, mf_I fr p1, mf_I fr p2, mf_I fr p3, mf_I fr p4, mf_F fr p7, mf_F fr p8] at H ⊢
  exact H
theorem mf_HB {P : Nat → Bool} {σ τ : mS} {l h : List Int32} {t : Int32} (fr : m_fr P σ τ) (p1 : P 204 = false) (p2 : P 212 = false) (p3 : P 213 = false) (p4 : P 214 = false) (hb : sI τ 201 t = sI σ 201 t) (H : HB σ l h t) : HB τ l h t := by
  have lv : ∀ k, lvn τ l k ↔ lvn σ l k := fun k => mf_lvn fr p2 p3 p4
  simp only [HB, hl1, hb, lv, mf_I fr p1] at H ⊢
  exact H
/-- HB of other tables while holes of one change -/
theorem HB_oth {σ τ : mS} {ts fh fh' : List Int32} {es hs : Int32 → List Int32} {s t : Int32} {h' : List Int32} (fr : m_fr hV σ τ) (hb : sI τ 201 s = sI σ 201 s) (H : HB σ (es s) (hs s) s) (k204 : ∀ x, x ∈ hs s → sI τ 204 x = sI σ 204 x) : HB τ (es s) (hs s) s := by
  have lv : ∀ k, lvn τ (es s) k ↔ lvn σ (es s) k := fun k => mf_lvn fr rfl rfl rfl
  obtain ⟨a, b, c, d⟩ := H
  refine ⟨by rw [hb]; exact a, by rw [hb]; exact b, ?_, by rw [hb, lv]; exact d⟩
  rw [hb]
  intro k k0 k1 k2 q
  rw [lv] at q
  obtain ⟨x, x1, x2⟩ := c k k0 k1 k2 q
  exact ⟨x, x1, by rw [k204 x x1]; exact x2⟩
