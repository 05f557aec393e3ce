/-! LAYER 2: the system's tables: table, next, length -/
theorem nxt_lp {N : Nat} {σ : mS} : ∀ (l : List Int32) (n : Nat) (x : Int32), l.length < n → seg (sI σ 217) x l (-1) → (∀ e, e ∈ l → 0 ≤ e ∧ e < 20000) → xx3_next_b21 N n x σ = some ((l.find? (alv σ)).getD (-1), σ)
  | [], n, x, hn, hs, _ => by
    obtain ⟨n, rfl⟩ : ∃ j, n = j + 1 := ⟨n - 1, by simp at hn; omega⟩
    have : x = -1 := hs
    subst this
    rw [xx3_next_b21, if_pos rfl]; rfl
  | y :: l, n, x, hn, hs, hr => by
    obtain ⟨n, rfl⟩ : ∃ j, n = j + 1 := ⟨n - 1, by simp at hn; omega⟩
    obtain ⟨rfl, hs'⟩ := hs
    obtain ⟨x0, x1⟩ := hr x List.mem_cons_self
    have ih := nxt_lp (N := N) l n (sI σ 217 x) (by simp at hn; omega) hs' (fun e he => hr e (List.mem_cons_of_mem _ he))
    clear hr
    rw [xx3_next_b21]
    by_cases c : sI σ 214 x = 0
    · have : alv σ x = false := by simp [alv, c]
      simp (disch := lia) only [lt, gd_in, if_pos, if_neg, ↓reduceIte, gd_z0, gd_z1, gd_tt, sF_fold, sG_fold, sI_fold, sJ_fold, c]
      rw [ih]
      simp [List.find?_cons, this]
    · have : alv σ x = true := by simp [alv, c]
      simp (disch := lia) only [lt, gd_in, if_pos, if_neg, ↓reduceIte, gd_z0, gd_z1, gd_tt, sF_fold, sG_fold, sI_fold, sJ_fold, c, xx3_next_b45]
      simp [List.find?_cons, this]
theorem next_x0 {N : Nat} (hN : BIG ≤ N) {σ : mS} {ts ff fh : List Int32} {es ps hs : Int32 → List Int32} {t : Int32} (M : MX σ ts es ps hs ff fh) (ht : t ∈ ts) : xx3_next N σ t (-1) = some (((es t).find? (alv σ)).getD (-1), σ) := by
  obtain ⟨t0, t1, _⟩ := M.2.1.1 t ht
  obtain ⟨w1, _, w3, _, _⟩ := M.2.2.2.2.1 t ht
  have rg : ∀ x, x ∈ es t → 0 ≤ x ∧ x < 20000 := fun x hx => ⟨(M.1.1 t ht x hx).1, (M.1.1 t ht x hx).2.1⟩
  have len := nd_len (M := 20000) _ w3 (fun x hx => ⟨(rg x hx).1, by have := (rg x hx).2; rw [tI_lt] at this; exact this⟩)
  rw [xx3_next, if_pos rfl, gd_in (by decide) t0 t1]
  exact nxt_lp (es t) N _ (by simp only [BIG] at hN; omega) w1 rg
theorem next_x {N : Nat} (hN : BIG ≤ N) {σ : mS} {ts ff fh : List Int32} {es ps hs : Int32 → List Int32} {t e : Int32} {A B : List Int32} (M : MX σ ts es ps hs ff fh) (ht : t ∈ ts) (he : es t = A ++ e :: B) : xx3_next N σ t e = some ((B.find? (alv σ)).getD (-1), σ) := by
  obtain ⟨w1, _, w3, _, _⟩ := M.2.2.2.2.1 t ht
  have rg : ∀ x, x ∈ es t → 0 ≤ x ∧ x < 20000 := fun x hx => ⟨(M.1.1 t ht x hx).1, (M.1.1 t ht x hx).2.1⟩
  have len := nd_len (M := 20000) _ w3 (fun x hx => ⟨(rg x hx).1, by have := (rg x hx).2; rw [tI_lt] at this; exact this⟩)
  have re := rg e (by rw [he]; simp)
  obtain ⟨e0, e1⟩ := re
  rw [he, seg_app] at w1
  obtain ⟨m, s1, s2⟩ := w1
  rw [he] at len
  simp only [List.length_append, List.length_cons] at len
  rw [xx3_next, if_neg (by lia), gd_in (by decide) e0 e1]
  exact nxt_lp B N _ (by simp only [BIG] at hN; omega) s2.2 (fun x hx => rg x (by rw [he]; simp [hx]))
/-- how long a table is -/
def isLen (σ : mS) (l : List Int32) (n : Int32) : Prop := 0 ≤ n ∧ n ≤ 44000 ∧ (∀ k, 1 ≤ k → k ≤ n → lvn σ l k) ∧ ¬ lvn σ l (n + 1)
theorem length_x {N : Nat} (hN : BIG ≤ N) {σ : mS} {ts ff fh : List Int32} {es ps hs : Int32 → List Int32} {t : Int32} (M : MX σ ts es ps hs ff fh) (hd : dst σ) (ht : t ∈ ts) : ∃ n τ hs' fh', xx3_length N σ t = some (n, τ) ∧ isLen σ (es t) n ∧ MX τ ts es ps hs' ff fh' ∧ m_fr hU σ τ := by
  obtain ⟨F, H, B, E⟩ := M
  obtain ⟨b0, b1, b2, b3⟩ := B t ht
  obtain ⟨m, τ, h', fh', e1, e2, e3, e4, e5, e6⟩ := length_e hN ht hd F H b0 b1 b2 b3
  refine ⟨m, τ, fU hs t h', fh', e1, ⟨e2.1, by lia, fun k k0 k1 => e2.2.1 k k0 k1 (by lia), e2.2.2⟩, ⟨mf_FX2 e6 ⟨rfl, rfl, rfl, rfl, rfl, rfl⟩ ⟨rfl, rfl, rfl, rfl, rfl⟩ F, e4, fun s hs' => ?_, mf_EX e6 ⟨rfl, rfl, rfl, rfl, rfl, rfl, rfl, rfl⟩ E⟩, e6⟩
  have b201 : ∀ s, sI τ 201 s = sI σ 201 s := fun s => mf_I e6 rfl
  have lv : ∀ l k, lvn τ l k ↔ lvn σ l k := fun l k => mf_lvn e6 rfl rfl rfl
  by_cases c : s = t
  · subst c
    rw [fU_s]
    exact ⟨by rw [b201]; exact b0, by rw [b201]; exact b1, by rw [b201]; exact e5, by rw [b201, lv]; exact b3⟩
  · rw [fU_o c]
    obtain ⟨q1, q2, q3, q4⟩ := B s hs'
    refine ⟨by rw [b201]; exact q1, by rw [b201]; exact q2, ?_, by rw [b201, lv]; exact q4⟩
    rw [b201]
    intro j j0 j1 j2 q
    rw [lv] at q
    obtain ⟨x, x1, x2⟩ := q3 j j0 j1 j2 q
    exact ⟨x, x1, by rw [mf_I e6 rfl]; exact x2⟩
theorem len_uni {σ : mS} {l : List Int32} {n m : Int32} (h : isLen σ l n) (h' : isLen σ l m) : n = m := by
  obtain ⟨a1, a2, a3, a4⟩ := h
  obtain ⟨b1, b2, b3, b4⟩ := h'
  rcases (by lia : n < m ∨ m < n ∨ n = m) with q | q | q
  · exact absurd (b3 (n + 1) (by lia) (by lia)) a4
  · exact absurd (a3 (m + 1) (by lia) (by lia)) b4
  · exact q
/-- tables that are free -/
def FT (σ : mS) (ts ft : List Int32) : Prop := seg (sI σ 209) (sF σ 210) ft (-1) ∧ ft.Nodup ∧ (∀ t, t ∈ ft → 0 ≤ t ∧ t < 3000 ∧ t ∉ ts) ∧ (sF σ 211).toInt = ts.length ∧ ts.length + ft.length = 3000
def hT (k : Nat) : Bool := [194, 195, 196, 197, 198, 199, 200, 201, 202, 203, 210, 211].contains k
theorem table_x0 {N : Nat} {σ : mS} (h : sF σ 211 = 3000) : xx3_table N σ = some (.error (1101, σ)) := by
  rw [xx3_table, if_pos]; exact h
theorem table_x {N : Nat} {σ : mS} {ts ft ff fh : List Int32} {es ps hs : Int32 → List Int32} (M : MX σ ts es ps hs ff fh) (T : FT σ ts ft) (hc : sF σ 211 ≠ 3000) : ∃ t τ ft', ft = t :: ft' ∧ 0 ≤ t ∧ t < 3000 ∧ t ∉ ts ∧ xx3_table N σ = some (.ok (t, τ)) ∧ MX τ (t :: ts) (fU es t []) ps (fU hs t []) ff fh ∧ FT τ (t :: ts) ft' ∧ (∀ s, 0 ≤ s → sI τ 195 s = if s = t then -1 else sI σ 195 s) ∧ (∀ s, 0 ≤ s → sJ τ 196 s = if s = t then sG σ 194 else sJ σ 196 s) ∧ sG τ 194 = sG σ 194 + 1 ∧ sF τ 211 = sF σ 211 + 1 ∧ m_fr hT σ τ := by
  obtain ⟨T1, T2, T3, T4, T5⟩ := T
  cases ft with
  | nil =>
    exfalso
    apply hc
    rw [tI_eq]
    simp only [List.length_nil] at T5
    have z : (3000 : Int32).toInt = 3000 := rfl
    omega
  | cons t ft =>
    obtain ⟨t0, t1, t2⟩ := T3 t List.mem_cons_self
    obtain ⟨nt, ndt⟩ := List.nodup_cons.mp T2
    have ft0 : sF σ 210 = t := T1.1
    generalize hτ : md_ai (md_ai (md_ai (md_ai (md_ai (md_ai (md_ai (md_al (md_pl (md_ai (md_pi (md_pi σ 210 (sI σ 209 t)) 211 (sF σ 211 + 1)) 195 t.toNatClampNeg (-1)) 194 (sG σ 194 + 1)) 196 t.toNatClampNeg (sG σ 194)) 197 t.toNatClampNeg (-1)) 198 t.toNatClampNeg (-1)) 199 t.toNatClampNeg 0) 200 t.toNatClampNeg 0) 201 t.toNatClampNeg 0) 202 t.toNatClampNeg (-1)) 203 t.toNatClampNeg 0 = τ
    have fr : m_fr hT σ τ := by
      rw [← hτ]
      exact mf_ai (mf_ai (mf_ai (mf_ai (mf_ai (mf_ai (mf_ai (mf_al (mf_pl (mf_ai (mf_pi (mf_pi mf_rfl rfl) rfl) rfl) rfl) rfl) rfl) rfl) rfl) rfl) rfl) rfl) rfl
    have a195 : ∀ s, 0 ≤ s → sI τ 195 s = if s = t then -1 else sI σ 195 s := fun s s0 => by
      rw [← hτ]; simp (disch := lia) only [sF_pi, sF_pl, sF_ai, sF_al, sG_pi, sG_pl, sG_ai, sG_al, sI_pi, sI_pl, sI_al, sI_ai1, sI_ai2, sJ_pi, sJ_pl, sJ_ai, sJ_al1, sJ_al2, Nat.reduceEqDiff, if_true, if_false, ne_eq, not_false_eq_true, ite_true, ite_false, sI_ai, true_and]
    have a197 : ∀ s, 0 ≤ s → sI τ 197 s = if s = t then -1 else sI σ 197 s := fun s s0 => by
      rw [← hτ]; simp (disch := lia) only [sF_pi, sF_pl, sF_ai, sF_al, sG_pi, sG_pl, sG_ai, sG_al, sI_pi, sI_pl, sI_al, sI_ai1, sI_ai2, sJ_pi, sJ_pl, sJ_ai, sJ_al1, sJ_al2, Nat.reduceEqDiff, if_true, if_false, ne_eq, not_false_eq_true, ite_true, ite_false, sI_ai, true_and]
    have a198 : ∀ s, 0 ≤ s → sI τ 198 s = if s = t then -1 else sI σ 198 s := fun s s0 => by
      rw [← hτ]; simp (disch := lia) only [sF_pi, sF_pl, sF_ai, sF_al, sG_pi, sG_pl, sG_ai, sG_al, sI_pi, sI_pl, sI_al, sI_ai1, sI_ai2, sJ_pi, sJ_pl, sJ_ai, sJ_al1, sJ_al2, Nat.reduceEqDiff, if_true, if_false, ne_eq, not_false_eq_true, ite_true, ite_false, sI_ai, true_and]
    have a199 : ∀ s, 0 ≤ s → sI τ 199 s = if s = t then 0 else sI σ 199 s := fun s s0 => by
      rw [← hτ]; simp (disch := lia) only [sF_pi, sF_pl, sF_ai, sF_al, sG_pi, sG_pl, sG_ai, sG_al, sI_pi, sI_pl, sI_al, sI_ai1, sI_ai2, sJ_pi, sJ_pl, sJ_ai, sJ_al1, sJ_al2, Nat.reduceEqDiff, if_true, if_false, ne_eq, not_false_eq_true, ite_true, ite_false, sI_ai, true_and]
    have a200 : ∀ s, 0 ≤ s → sI τ 200 s = if s = t then 0 else sI σ 200 s := fun s s0 => by
      rw [← hτ]; simp (disch := lia) only [sF_pi, sF_pl, sF_ai, sF_al, sG_pi, sG_pl, sG_ai, sG_al, sI_pi, sI_pl, sI_al, sI_ai1, sI_ai2, sJ_pi, sJ_pl, sJ_ai, sJ_al1, sJ_al2, Nat.reduceEqDiff, if_true, if_false, ne_eq, not_false_eq_true, ite_true, ite_false, sI_ai, true_and]
    have a201 : ∀ s, 0 ≤ s → sI τ 201 s = if s = t then 0 else sI σ 201 s := fun s s0 => by
      rw [← hτ]; simp (disch := lia) only [sF_pi, sF_pl, sF_ai, sF_al, sG_pi, sG_pl, sG_ai, sG_al, sI_pi, sI_pl, sI_al, sI_ai1, sI_ai2, sJ_pi, sJ_pl, sJ_ai, sJ_al1, sJ_al2, Nat.reduceEqDiff, if_true, if_false, ne_eq, not_false_eq_true, ite_true, ite_false, sI_ai, true_and]
    have a202 : ∀ s, 0 ≤ s → sI τ 202 s = if s = t then -1 else sI σ 202 s := fun s s0 => by
      rw [← hτ]; simp (disch := lia) only [sF_pi, sF_pl, sF_ai, sF_al, sG_pi, sG_pl, sG_ai, sG_al, sI_pi, sI_pl, sI_al, sI_ai1, sI_ai2, sJ_pi, sJ_pl, sJ_ai, sJ_al1, sJ_al2, Nat.reduceEqDiff, if_true, if_false, ne_eq, not_false_eq_true, ite_true, ite_false, sI_ai, true_and]
    have a203 : ∀ s, 0 ≤ s → sI τ 203 s = if s = t then 0 else sI σ 203 s := fun s s0 => by
      rw [← hτ]; simp (disch := lia) only [sF_pi, sF_pl, sF_ai, sF_al, sG_pi, sG_pl, sG_ai, sG_al, sI_pi, sI_pl, sI_al, sI_ai1, sI_ai2, sJ_pi, sJ_pl, sJ_ai, sJ_al1, sJ_al2, Nat.reduceEqDiff, if_true, if_false, ne_eq, not_false_eq_true, ite_true, ite_false, sI_ai, true_and]
    have a196 : ∀ s, 0 ≤ s → sJ τ 196 s = if s = t then sG σ 194 else sJ σ 196 s := fun s s0 => by
      rw [← hτ]; simp (disch := lia) only [sF_pi, sF_pl, sF_ai, sF_al, sG_pi, sG_pl, sG_ai, sG_al, sI_pi, sI_pl, sI_al, sI_ai1, sI_ai2, sJ_pi, sJ_pl, sJ_ai, sJ_al1, sJ_al2, Nat.reduceEqDiff, if_true, if_false, ne_eq, not_false_eq_true, ite_true, ite_false, sJ_al, true_and]
    have f210 : sF τ 210 = sI σ 209 t := by rw [← hτ]; simp only [sF_pi, sF_pl, sF_ai, sF_al, sG_pi, sG_pl, sG_ai, sG_al, sI_pi, sI_pl, sI_al, sI_ai1, sI_ai2, sJ_pi, sJ_pl, sJ_ai, sJ_al1, sJ_al2, Nat.reduceEqDiff, if_true, if_false, ne_eq, not_false_eq_true, ite_true, ite_false]
    have f211 : sF τ 211 = sF σ 211 + 1 := by rw [← hτ]; simp only [sF_pi, sF_pl, sF_ai, sF_al, sG_pi, sG_pl, sG_ai, sG_al, sI_pi, sI_pl, sI_al, sI_ai1, sI_ai2, sJ_pi, sJ_pl, sJ_ai, sJ_al1, sJ_al2, Nat.reduceEqDiff, if_true, if_false, ne_eq, not_false_eq_true, ite_true, ite_false]
    have g194 : sG τ 194 = sG σ 194 + 1 := by rw [← hτ]; simp only [sF_pi, sF_pl, sF_ai, sF_al, sG_pi, sG_pl, sG_ai, sG_al, sI_pi, sI_pl, sI_al, sI_ai1, sI_ai2, sJ_pi, sJ_pl, sJ_ai, sJ_al1, sJ_al2, Nat.reduceEqDiff, if_true, if_false, ne_eq, not_false_eq_true, ite_true, ite_false]
    have g : ∀ k, hT k = false → sI τ k = sI σ k := fun k hk => by funext m; exact mf_I fr hk
    have al : alv τ = alv σ := by funext x; simp only [alv]; rw [mf_I fr rfl]
    have lv : ∀ l k, lvn τ l k ↔ lvn σ l k := fun l k => mf_lvn fr rfl rfl rfl
    have ne : ∀ s, s ∈ ts → s ≠ t := fun s hs' q => t2 (by rw [← q]; exact hs')
    obtain ⟨F, H, B, E1, E2, E3, E4, E5, E6, E7⟩ := M
    have F' : FX τ ts es ps := mf_FX2 fr ⟨rfl, rfl, rfl, rfl, rfl, rfl⟩ ⟨rfl, rfl, rfl, rfl, rfl⟩ F
    refine ⟨t, τ, ft, rfl, t0, t1, t2, ?_, ⟨⟨fun s hs' x hx => ?_, fun p p0 p1 => ?_, fun s hs' x y hx hy k => ?_⟩, ⟨fun s hs' => ?_, ?_, H.2.2.1, H.2.2.2.1, fun s hs' x hx => ?_, fun s hs' s' hs'' c x hx => ?_⟩, fun s hs' => ?_, ?_, fun s hs' => ?_, ?_, E4, fun e he => ?_, ?_, ?_⟩, ⟨?_, ndt, fun s hs' => ?_, ?_, ?_⟩, a195, a196, g194, f211, fr⟩
    · rw [← hτ]
      clear a195 a197 a198 a199 a200 a201 a202 a203 a196 F H B E2 E3 E5 T1 T3 lv F' ne g
      simp (disch := lia) only [xx3_table, lt, gd_in, if_pos, if_neg, ↓reduceIte, gd_z0, gd_z1, gd_tt, sF_fold, sG_fold, sI_fold, sJ_fold, sF_pi, sF_pl, sF_ai, sF_al, sG_pi, sG_pl, sG_ai, sG_al, sI_pi, sI_pl, sI_al, sI_ai1, sI_ai2, sJ_pi, sJ_pl, sJ_ai, sJ_al1, sJ_al2, Nat.reduceEqDiff, if_true, if_false, ne_eq, not_false_eq_true, ite_true, ite_false, ft0, hc]
    · rcases List.mem_cons.mp hs' with q | q
      · subst q; rw [fU_s] at hx; exact absurd hx (by simp)
      · rw [fU_o (ne s q)] at hx; exact F'.1 s q x hx
    · obtain ⟨u1, u2, u3⟩ := F'.2.1 p p0 p1
      refine ⟨u1, u2, fun x => (u3 x).trans ⟨?_, ?_⟩⟩
      · rintro ⟨⟨s, s1, s2⟩, s3⟩
        exact ⟨⟨s, List.mem_cons_of_mem _ s1, by rw [fU_o (ne s s1)]; exact s2⟩, s3⟩
      · rintro ⟨⟨s, s1, s2⟩, s3⟩
        rcases List.mem_cons.mp s1 with q | q
        · subst q; rw [fU_s] at s2; exact absurd s2 (by simp)
        · rw [fU_o (ne s q)] at s2; exact ⟨⟨s, q, s2⟩, s3⟩
    · rcases List.mem_cons.mp hs' with q | q
      · subst q; rw [fU_s] at hx; exact absurd hx (by simp)
      · rw [fU_o (ne s q)] at hx hy; exact F'.2.2 s q x y hx hy k
    · rcases List.mem_cons.mp hs' with q | q
      · subst q
        rw [fU_s, fU_s]
        refine ⟨t0, t1, ⟨0, by rw [a202 s t0, if_pos rfl]; exact ⟨rfl, rfl⟩⟩, by rw [a203 s t0, if_pos rfl]; rfl, by simp, fun x hx => absurd hx (by simp), fun x hx => absurd hx (by simp)⟩
      · rw [fU_o (ne s q), fU_o (ne s q)]
        obtain ⟨s0, s1, ⟨n, hpn⟩, b, c, d, i⟩ := H.1 s q
        refine ⟨s0, s1, ⟨n, by rw [a202 s s0, if_neg (ne s q), g 204 rfl, g 205 rfl, g 206 rfl]; exact hpn⟩, by rw [a203 s s0, if_neg (ne s q)]; exact b, c, fun x hx => by rw [g 204 rfl]; exact d x hx, fun x hx hne => ?_⟩
        rw [g 208 rfl] at hne
        rw [g 212 rfl, g 204 rfl, mf_J fr rfl]
        exact i x hx hne
    · rw [g 205 rfl, mf_F fr rfl]; exact H.2.1
    · rcases List.mem_cons.mp hs' with q | q
      · subst q; rw [fU_s] at hx; exact absurd hx (by simp)
      · rw [fU_o (ne s q)] at hx; exact H.2.2.2.2.1 s q x hx
    · rcases List.mem_cons.mp hs' with q | q
      · subst q; rw [fU_s] at hx; exact absurd hx (by simp)
      · rw [fU_o (ne s q)] at hx
        rcases List.mem_cons.mp hs'' with q' | q'
        · subst q'; rw [fU_s]; simp
        · rw [fU_o (ne s' q')]; exact H.2.2.2.2.2 s q s' q' c x hx
    · rcases List.mem_cons.mp hs' with q | q
      · subst q
        rw [fU_s, fU_s]
        refine ⟨by rw [a201 s t0, if_pos rfl]; decide, by rw [a201 s t0, if_pos rfl]; decide, fun k k0 k1 _ _ => ?_, fun ⟨x, x1, _⟩ => absurd x1 (by simp)⟩
        rw [a201 s t0, if_pos rfl] at k1
        exfalso; lia
      · rw [fU_o (ne s q), fU_o (ne s q)]
        have s0 := (H.1 s q).1
        have b : sI τ 201 s = sI σ 201 s := by rw [a201 s s0, if_neg (ne s q)]
        obtain ⟨q1, q2, q3, q4⟩ := B s q
        refine ⟨by rw [b]; exact q1, by rw [b]; exact q2, ?_, by rw [b, lv]; exact q4⟩
        rw [b]
        intro j j0 j1 j2 w
        rw [lv] at w
        obtain ⟨x, x1, x2⟩ := q3 j j0 j1 j2 w
        exact ⟨x, x1, by rw [g 204 rfl]; exact x2⟩
    · exact List.nodup_cons.mpr ⟨t2, E1⟩
    · rcases List.mem_cons.mp hs' with q | q
      · subst q
        rw [fU_s]
        exact ⟨by rw [a197 s t0, if_pos rfl]; rfl, by rw [a198 s t0, if_pos rfl]; rfl, by simp, by rw [a199 s t0, if_pos rfl]; rfl, by rw [a200 s t0, if_pos rfl]; rfl⟩
      · rw [fU_o (ne s q)]
        have s0 := (H.1 s q).1
        obtain ⟨z1, z2, z3, z4, z5⟩ := E2 s q
        rw [a197 s s0, a198 s s0, a199 s s0, a200 s s0, if_neg (ne s q), if_neg (ne s q), if_neg (ne s q), if_neg (ne s q), g 217 rfl, al]
        exact ⟨z1, z2, z3, z4, z5⟩
    · rw [g 217 rfl, mf_F fr rfl]; exact E3
    · obtain ⟨e0, e1, e2⟩ := E5 e he
      refine ⟨e0, e1, fun s hs' => ?_⟩
      rcases List.mem_cons.mp hs' with q | q
      · subst q; rw [fU_s]; simp
      · rw [fU_o (ne s q)]; exact e2 s q
    · rw [mf_F fr rfl]; exact E6
    · rw [mf_F fr rfl, E7]
      simp only [List.map_cons, List.sum_cons, fU_s, List.length_nil]
      have : ts.map (fun s => (fU es t [] s).length) = ts.map (fun s => (es s).length) := List.map_congr_left (fun s hs' => by rw [fU_o (ne s hs')])
      rw [this]; omega
    · rw [f210, g 209 rfl]; exact T1.2
    · obtain ⟨s0, s1, s2⟩ := T3 s (List.mem_cons_of_mem _ hs')
      refine ⟨s0, s1, fun q => ?_⟩
      rcases List.mem_cons.mp q with w | w
      · subst w; exact nt hs'
      · exact s2 w
    · rw [f211]
      simp only [List.length_cons] at T5 ⊢
      rw [tI_add] <;> simp only [show (1 : Int32).toInt = 1 from rfl] <;> omega
    · simp only [List.length_cons] at T5 ⊢; omega
