/-! LAYER 2: the two sides: tables -/
/-- two entries that are alike -/
def ER (w : WD) (σ μ : mS) (e e' : Int32) : Prop := VV w (sI σ 212 e) (sJ σ 213 e) (sI μ 32 e') (sJ μ 33 e') ∧ VV w (sI σ 214 e) (sJ σ 215 e) (sI μ 34 e') (sJ μ 35 e') ∧ sI σ 212 e ≠ 0 ∧ sI σ 212 e ≠ 8
def tX (w : WD) : List Int32 := (wT w).map Prod.fst
def tM (w : WD) : List Int32 := (wT w).map Prod.snd
theorem tX_mem {w : WD} {a b : Int32} (h : (a, b) ∈ wT w) : a ∈ tX w := List.mem_map.mpr ⟨(a, b), h, rfl⟩
theorem tM_mem {w : WD} {a b : Int32} (h : (a, b) ∈ wT w) : b ∈ tM w := List.mem_map.mpr ⟨(a, b), h, rfl⟩
def RT (w : WD) (σ μ : mS) (es es' : Int32 → List Int32) : Prop := (∃ ps hs ff fh, MX σ (tX w) es ps hs ff fh) ∧ (∃ ft, FT σ (tX w) ft) ∧ (∃ ps, MM μ (tM w) es' ps) ∧ FTm μ (tM w) ∧ (∀ a b, (a, b) ∈ wT w → F2 (ER w σ μ) (es a) (es' b) ∧ ((sI σ 195 a = -1 ∧ sI μ 20 b = -1) ∨ (sI σ 195 a, sI μ 20 b) ∈ wT w) ∧ sJ σ 196 a = Int32.toInt64 (sI μ 19 b))
theorem alv_alm {w : WD} {σ μ : mS} {e e' : Int32} (h : ER w σ μ e e') : alv σ e = alm μ e' := by
  have := (VV_tag h.2.1).2.2.2.2.1
  simp only [alv, alm]
  by_cases c : sI σ 214 e = 0
  · simp [c, this.mp c]
  · have : sI μ 34 e' ≠ 0 := fun q => c (this.mpr q)
    simp [c, this]
theorem live_2 {N : Nat} (hN : BIG ≤ N) {w : WD} {σ μ : mS} {es es' : Int32 → List Int32} {a b kx km : Int32} {vx vm : Int64} (W : WOK w) (S : RS w σ μ) (R : RT w σ μ es es') (h : (a, b) ∈ wT w) (k : VV w kx vx km vm) (k0 : kx ≠ 0) (k8 : kx ≠ 8) : ∃ r c d, xx3_live N σ a kx vx = some (r, σ) ∧ mm_get N μ b km vm = some (gt μ c d) ∧ ((r = -1 ∧ c = 0 ∧ d = 0) ∨ (0 ≤ r ∧ r < 20000 ∧ r ∈ es a ∧ sI σ 214 r ≠ 0 ∧ c ≠ 0 ∧ VV w (sI σ 214 r) (sJ σ 215 r) c d)) := by
  obtain ⟨⟨ps, hs, ff, fh, M⟩, _, ⟨ps', MM'⟩, _, E⟩ := R
  obtain ⟨f2, _, _⟩ := E a b h
  obtain ⟨ok, mok⟩ := VV_ok S k k0 k8
  obtain ⟨r, r1, r2⟩ := live_x hN (RS_dst S) M.1 (tX_mem h) ok
  rcases get_m hN MM'.1 (tM_mem h) mok with ⟨e', g1, g2, g3⟩ | ⟨g1, g2⟩
  · refine ⟨r, _, _, r1, g3, ?_⟩
    obtain ⟨x, x1, x2⟩ := F2_r f2 e' g1
    have kq : k_eq σ (sI σ 212 x) (sJ σ 213 x) kx vx := (VV_eq W S x2.1 k).mpr g2
    rcases r2 with ⟨a1, a2, a3⟩ | ⟨a1, a2⟩
    · have : r = x := M.1.2.2 a (tX_mem h) r x a1 x1 (keq_tr a2 (keq_sym kq))
      subst this
      have rr := M.1.1 a (tX_mem h) r a1
      exact .inr ⟨rr.1, rr.2.1, a1, a3, fun q => a3 ((VV_tag x2.2.1).2.2.2.2.1.mpr q), x2.2.1⟩
    · have z := a2 x x1 kq
      have v := x2.2.1
      left
      refine ⟨a1, (VV_tag v).2.2.2.2.1.mp z, ?_⟩
      rcases v with v | v | v | v | v | v | v | v | v
      · exact v.2.2.2
      all_goals (obtain ⟨q, _⟩ := v; rw [q] at z; exact absurd z (by decide))
  · refine ⟨r, 0, 0, r1, g2, .inl ⟨?_, rfl, rfl⟩⟩
    rcases r2 with ⟨a1, a2, a3⟩ | ⟨a1, a2⟩
    · obtain ⟨y, y1, y2⟩ := F2_l f2 r a1
      exact absurd ((VV_eq W S y2.1 k).mp a2) (g1 y y1)
    · exact a1
theorem len_2 {w : WD} {σ μ : mS} {l l' : List Int32} {n m : Int32} (f : F2 (ER w σ μ) l l') (h : isLen σ l n) (h' : isLenM μ l' m) : n = m := by
  have lv : ∀ k, lvn σ l k ↔ mlv μ l' k := fun k => by
    constructor
    · rintro ⟨e, e1, e2, e3, e4⟩
      obtain ⟨y, y1, y2⟩ := F2_l f e e1
      have t := VV_tag y2.1
      refine ⟨y, y1, t.2.2.2.2.2.1.mp e2, ?_, fun q => e4 ((VV_tag y2.2.1).2.2.2.2.1.mpr q)⟩
      rcases y2.1 with v | v | v | v | v | v | v | v | v
      all_goals try (obtain ⟨q, _⟩ := v; rw [q] at e2; exact absurd e2 (by decide))
      rw [← v.2.2]; exact e3
    · rintro ⟨e, e1, e2, e3, e4⟩
      obtain ⟨y, y1, y2⟩ := F2_r f e e1
      have t := VV_tag y2.1
      have e2' := t.2.2.2.2.2.1.mpr e2
      refine ⟨y, y1, e2', ?_, fun q => e4 ((VV_tag y2.2.1).2.2.2.2.1.mp q)⟩
      rcases y2.1 with v | v | v | v | v | v | v | v | v
      all_goals try (obtain ⟨q, _⟩ := v; rw [q] at e2'; exact absurd e2' (by decide))
      rw [v.2.2]; exact e3
  obtain ⟨a1, a2, a3, a4⟩ := h
  obtain ⟨b1, b2, b3, b4⟩ := h'
  rcases (by lia : n < m ∨ m < n ∨ n = m) with q | q | q
  · exact absurd ((lv _).mpr (b3 (n + 1) (by lia) (by lia))) a4
  · exact absurd ((lv _).mp (a3 (m + 1) (by lia) (by lia))) b4
  · exact q
theorem sum_2 {w : WD} {σ μ : mS} {es es' : Int32 → List Int32} : ∀ (l : PL2), (∀ a b, (a, b) ∈ l → F2 (ER w σ μ) (es a) (es' b)) → ((l.map Prod.fst).map (fun t => (es t).length)).sum = ((l.map Prod.snd).map (fun t => (es' t).length)).sum
  | [], _ => rfl
  | (a, b) :: l, h => by
    simp only [List.map_cons, List.sum_cons]
    rw [F2_len (h a b List.mem_cons_self), sum_2 l (fun c d q => h c d (List.mem_cons_of_mem _ q))]
/-- what put and set do on both sides -/
theorem put_2 {N : Nat} (hN : BIG ≤ N) {w : WD} {σ μ : mS} {es es' : Int32 → List Int32} {a b kx km tx tm : Int32} {vx vm yx ym : Int64} (W : WOK w) (S : RS w σ μ) (R : RT w σ μ es es') (h : (a, b) ∈ wT w) (k : VV w kx vx km vm) (k0 : kx ≠ 0) (k8 : kx ≠ 8) (v : VV w tx yx tm ym) :
    (∃ τ τm e2 e2', xx3_put N σ a kx vx tx yx = some (.ok τ) ∧ mm_set N μ b km vm tm ym = some (1, τm) ∧ RT w τ τm e2 e2' ∧ m_fr hP σ τ ∧ m_fr mP μ τm)
    ∨ (∃ τ τm e2 e2', xx3_put N σ a kx vx tx yx = some (.error (1101, τ)) ∧ mm_set N μ b km vm tm ym = bd (mm_breakOff N τm 3) (fun z => some (0, z)) ∧ RT w τ τm e2 e2' ∧ m_fr hY σ τ ∧ m_fr mY μ τm) := by
  obtain ⟨⟨ps, hs, ff, fh, M⟩, ⟨ft, T⟩, ⟨ps', MM'⟩, T', E⟩ := R
  obtain ⟨f2, meta0, _⟩ := E a b h
  obtain ⟨ok, mok⟩ := VV_ok S k k0 k8
  obtain ⟨g0, g1, g2, g3, g4, _⟩ := VV_tag v
  have ha := tX_mem h
  have hb := tM_mem h
  have kc : ∀ x y, ER w σ μ x y → (k_eq σ (sI σ 212 x) (sJ σ 213 x) kx vx ↔ mk_eq μ (sI μ 32 y) (sJ μ 33 y) km vm) := fun x y r => VV_eq W S r.1 k
  have abs1 : (∃ e, e ∈ es a ∧ k_eq σ (sI σ 212 e) (sJ σ 213 e) kx vx) ↔ (∃ e, e ∈ es' b ∧ mk_eq μ (sI μ 32 e) (sJ μ 33 e) km vm) := by
    constructor
    · rintro ⟨e, e1, e2⟩
      obtain ⟨y, y1, y2⟩ := F2_l f2 e e1
      exact ⟨y, y1, (kc e y y2).mp e2⟩
    · rintro ⟨e, e1, e2⟩
      obtain ⟨y, y1, y2⟩ := F2_r f2 e e1
      exact ⟨y, y1, (kc y e y2).mpr e2⟩
  have fK : F2 (ER w σ μ) (keepL σ (es a)) (keepM μ (es' b)) := by
    have q1 := F2_filter (p := alv σ) (q := alm μ) f2 (fun x y _ _ r => alv_alm r)
    have q2 := F2_filter (p := fun e => !alv σ e) (q := fun e => !alm μ e) f2 (fun x y _ _ r => by rw [alv_alm r])
    simp only [keepL, keepM]
    rw [F2_len q1, F2_len q2]
    split
    · exact q1
    · exact f2
  have cnt : (sF σ 220).toInt = (sF μ 41).toInt := by
    rw [M.2.2.2.2.2.2.2.2.2, MM'.2.2.2.2.2.2.2.2.2]
    have := sum_2 (es := es) (es' := es') (w := w) (σ := σ) (μ := μ) (wT w) (fun c d q => (E c d q).1)
    simp only [tX, tM]
    omega
  have cK : (sF σ 220).toInt - ((es a).length - (keepL σ (es a)).length : Int) = (sF μ 41).toInt - ((es' b).length - (keepM μ (es' b)).length : Int) := by
    rw [cnt, F2_len f2, F2_len fK]
  have ownX : ∀ c, c ∈ tX w → c ≠ a → ∀ x, x ∈ es c → x ∉ es a := fun c hc ca x hx q => ca (by rw [← (M.1.1 c hc x hx).2.2.1]; exact (M.1.1 a ha x q).2.2.1)
  have ownM : ∀ c, c ∈ tM w → c ≠ b → ∀ x, x ∈ es' c → x ∉ es' b := fun c hc ca x hx q => ca (by rw [← (MM'.1.1 c hc x hx).2.2.1]; exact (MM'.1.1 b hb x q).2.2.1)
  have rX := put_x hN (v := yx) M (RS_dst S) ha ok g0 g1 (tag := tx)
  have rM := set_m hN (v := ym) MM' hb mok g2 (by lia) (ty := tm)
  -- the world of tables stays
  have tail : ∀ (τ τm : mS) (e2 e2' : Int32 → List Int32) (P Q : Nat → Bool), m_fr P σ τ → m_fr Q μ τm → P 195 = false → P 196 = false → P 209 = false → P 210 = false → P 211 = false → Q 19 = false → Q 20 = false → Q 28 = false → Q 29 = false → Q 30 = false → (∃ ps hs ff fh, MX τ (tX w) e2 ps hs ff fh) → (∃ ps, MM τm (tM w) e2' ps) → (∀ c d, (c, d) ∈ wT w → F2 (ER w τ τm) (e2 c) (e2' d)) → RT w τ τm e2 e2' := by
    intro τ τm e2 e2' P Q fr frm p1 p2 p3 p4 p5 q1 q2 q3 q4 q5 mx mm ff2
    have i209 : sI τ 209 = sI σ 209 := by funext m; exact mf_I fr p3
    have i28 : sI τm 28 = sI μ 28 := by funext m; exact mf_I frm q3
    refine ⟨mx, ⟨ft, ?_⟩, mm, ?_, fun c d hcd => ⟨ff2 c d hcd, ?_, ?_⟩⟩
    · simp only [FT, i209, mf_F fr p4, mf_F fr p5]; exact T
    · simp only [FTm, i28, mf_F frm q4, mf_F frm q5]; exact T'
    · rw [mf_I fr p1, mf_I frm q2]; exact (E c d hcd).2.1
    · rw [mf_J fr p2, mf_I frm q1]; exact (E c d hcd).2.2
  rcases rX with ⟨e, τ, hs', fh', x1, x2, x3, x4, x5, x6, x7⟩ | ⟨x1, x2, x3⟩ | ⟨x1, x2, x3, τ, ps2, ff2, x4, x5, x6, x7⟩ | ⟨x1, x2, x3, e, τ, ps2, hs2, ff2, fh2, x4, x4', x5, x6, x7, x8, x9, x10, x11⟩
  · -- an entry is there
    rcases rM with ⟨e', τm, y1, y2, y3, y4, y5, y6, y7⟩ | ⟨y1, _⟩ | ⟨y1, _⟩ | ⟨y1, _⟩
    · left
      refine ⟨τ, τm, es, es', x3, y3, tail τ τm es es' _ _ x7 y7 rfl rfl rfl rfl rfl rfl rfl rfl rfl rfl ⟨_, _, _, _, x4⟩ ⟨_, y4⟩ (fun c d hcd => ?_), mf_mono x7 (fun k hk => ?_), mf_mono y7 (fun k hk => ?_)⟩
      · refine F2_mono (E c d hcd).1 (fun x y hx hy r => ?_)
        have xr := M.1.1 c (tX_mem hcd) x hx
        have yr := MM'.1.1 d (tM_mem hcd) y hy
        have eqv : x = e ↔ y = e' := by
          constructor
          · intro q
            subst q
            have ca : c = a := by rw [← xr.2.2.1]; exact (M.1.1 a ha x x1).2.2.1
            have db : d = b := (W.1 c d a b hcd h).mp ca
            subst ca; subst db
            exact MM'.1.2.2 d hb y e' hy y1 (mkeq_tr ((kc x y r).mp x2) (mkeq_sym y2))
          · intro q
            subst q
            have db : d = b := by rw [← yr.2.2.1]; exact (MM'.1.1 b hb y y1).2.2.1
            have ca : c = a := (W.1 c d a b hcd h).mpr db
            subst ca; subst db
            exact M.1.2.2 c ha x e hx x1 (keq_tr ((kc x y r).mpr y2) (keq_sym x2))
        obtain ⟨r1, r2, r3, r4⟩ := r
        refine ⟨?_, ?_, ?_, ?_⟩
        · rw [mf_I x7 rfl, mf_J x7 rfl, mf_I y7 rfl, mf_J y7 rfl]; exact r1
        · rw [x5 x xr.1, x6 x xr.1, y5 y yr.1, y6 y yr.1]
          by_cases q : x = e
          · rw [if_pos q, if_pos q, if_pos (eqv.mp q), if_pos (eqv.mp q)]; exact v
          · rw [if_neg q, if_neg q, if_neg (fun z => q (eqv.mpr z)), if_neg (fun z => q (eqv.mpr z))]; exact r2
        · rw [mf_I x7 rfl]; exact r3
        · rw [mf_I x7 rfl]; exact r4
      · simp only [hP, Bool.or_eq_false_iff] at hk ⊢; exact ⟨hk.2.1, hk.2.2.2⟩
      · simp only [mP, Bool.or_eq_false_iff] at hk ⊢; exact hk.2.1
    all_goals (obtain ⟨z, z1, z2⟩ := abs1.mp ⟨e, x1, x2⟩; exact absurd z2 (y1 z z1))
  · -- nil, and none is there
    rcases rM with ⟨e', τm, y1, y2, y3⟩ | ⟨y1, y2, y3⟩ | ⟨y1, y2, _⟩ | ⟨y1, y2, _⟩
    · obtain ⟨z, z1, z2⟩ := abs1.mpr ⟨e', y1, y2⟩
      exact absurd z2 (x1 z z1)
    · left
      exact ⟨σ, μ, es, es', x3, y3, ⟨⟨ps, hs, ff, fh, M⟩, ⟨ft, T⟩, ⟨ps', MM'⟩, T', E⟩, mf_rfl, mf_rfl⟩
    · exact absurd (g4.mp x2) y2
    · exact absurd (g4.mp x2) y2
  · -- no room
    rcases rM with ⟨e', τm, y1, y2, y3⟩ | ⟨y1, y2, y3⟩ | ⟨y1, y2, y3, τm, ps3, y4, y5, y6⟩ | ⟨y1, y2, y3, _⟩
    · obtain ⟨z, z1, z2⟩ := abs1.mpr ⟨e', y1, y2⟩
      exact absurd z2 (x1 z z1)
    · exact absurd (g4.mpr y2) x2
    · right
      refine ⟨τ, τm, _, _, x4, y4, tail τ τm _ _ _ _ x7 y6 rfl rfl rfl rfl rfl rfl rfl rfl rfl rfl ⟨_, _, _, _, x5⟩ ⟨_, y5⟩ (fun c d hcd => ?_), x7, y6⟩
      have base : F2 (ER w σ μ) (fU es a (keepL σ (es a)) c) (fU es' b (keepM μ (es' b)) d) := by
        by_cases ca : c = a
        · have db := (W.1 c d a b hcd h).mp ca
          subst ca; subst db
          rw [fU_s, fU_s]; exact fK
        · rw [fU_o ca, fU_o (fun q => ca ((W.1 c d a b hcd h).mpr q))]; exact (E c d hcd).1
      refine F2_mono base (fun x y _ _ r => ?_)
      simp only [ER] at r ⊢
      rw [mf_I x7 rfl, mf_J x7 rfl, mf_I x7 rfl, mf_J x7 rfl, mf_I y6 rfl, mf_J y6 rfl, mf_I y6 rfl, mf_J y6 rfl]
      exact r
    · exact absurd (by rw [← cK]; exact x3) y3
  · -- a new one
    rcases rM with ⟨e', τm, y1, y2, y3⟩ | ⟨y1, y2, y3⟩ | ⟨y1, y2, y3, _⟩ | ⟨y1, y2, y3, e', τm, ps3, y4, y4', y5, y6, y7, y8, y9, y10, y11⟩
    · obtain ⟨z, z1, z2⟩ := abs1.mpr ⟨e', y1, y2⟩
      exact absurd z2 (x1 z z1)
    · exact absurd (g4.mpr y2) x2
    · exact absurd (by rw [cK]; exact y3) x3
    · left
      have ex0 := x5.1.1 a ha e (by rw [fU_s]; simp)
      have ey0 := y5.1.1 b hb e' (by rw [fU_s]; simp)
      have ndX := (x5.2.2.2.2.1 a ha).2.2.1
      rw [fU_s] at ndX
      have nX : e ∉ keepL σ (es a) := fun q => (List.nodup_append.mp ndX).2.2 e q e (by simp) rfl
      refine ⟨τ, τm, _, _, x4, y4, tail τ τm _ _ _ _ x11 y11 rfl rfl rfl rfl rfl rfl rfl rfl rfl rfl ⟨_, _, _, _, x5⟩ ⟨_, y5⟩ (fun c d hcd => ?_), x11, y11⟩
      have up : ∀ x y, 0 ≤ x → 0 ≤ y → x ≠ e → y ≠ e' → ER w σ μ x y → ER w τ τm x y := fun x y o1 o2 n1 n2 r => by
        obtain ⟨r1, r2, r3, r4⟩ := r
        refine ⟨?_, ?_, ?_, ?_⟩
        · rw [x6 x o1, x7 x o1, y6 y o2, y7 y o2, if_neg n1, if_neg n1, if_neg n2, if_neg n2]; exact r1
        · rw [x8 x o1, x9 x o1, y8 y o2, y9 y o2, if_neg n1, if_neg n1, if_neg n2, if_neg n2]; exact r2
        · rw [x6 x o1, if_neg n1]; exact r3
        · rw [x6 x o1, if_neg n1]; exact r4
      have subX : ∀ x, x ∈ keepL σ (es a) → x ∈ es a := fun x hx => by
        simp only [keepL] at hx
        split at hx
        · exact (List.mem_filter.mp hx).1
        · exact hx
      have subM : ∀ x, x ∈ keepM μ (es' b) → x ∈ es' b := fun x hx => by
        simp only [keepM] at hx
        split at hx
        · exact (List.mem_filter.mp hx).1
        · exact hx
      by_cases ca : c = a
      · have db := (W.1 c d a b hcd h).mp ca
        subst ca; subst db
        rw [fU_s, fU_s]
        refine F2_app (F2_mono fK (fun x y hx hy r => up x y (M.1.1 c ha x (subX x hx)).1 (MM'.1.1 d hb y (subM y hy)).1 (fun q => nX (by rw [← q]; exact hx)) (fun q => y4' (by rw [← q]; exact hy)) r)) ⟨?_, trivial⟩
        refine ⟨?_, ?_, ?_, ?_⟩
        · rw [x6 e ex0.1, x7 e ex0.1, y6 e' ey0.1, y7 e' ey0.1, if_pos rfl, if_pos rfl, if_pos rfl, if_pos rfl]; exact k
        · rw [x8 e ex0.1, x9 e ex0.1, y8 e' ey0.1, y9 e' ey0.1, if_pos rfl, if_pos rfl, if_pos rfl, if_pos rfl]; exact v
        · rw [x6 e ex0.1, if_pos rfl]; exact k0
        · rw [x6 e ex0.1, if_pos rfl]; exact k8
      · have db : d ≠ b := fun q => ca ((W.1 c d a b hcd h).mpr q)
        rw [fU_o ca, fU_o db]
        refine F2_mono (E c d hcd).1 (fun x y hx hy r => up x y (M.1.1 c (tX_mem hcd) x hx).1 (MM'.1.1 d (tM_mem hcd) y hy).1 (fun q => ?_) (fun q => ?_) r)
        · have o := x5.1.1 c (tX_mem hcd) x (by rw [fU_o ca]; exact hx)
          exact ca (by rw [← o.2.2.1, q]; exact ex0.2.2.1)
        · have o := y5.1.1 d (tM_mem hcd) y (by rw [fU_o db]; exact hy)
          exact db (by rw [← o.2.2.1, q]; exact ey0.2.2.1)
