/-! LAYER 2: a put on a key that has an entry, or of nil, never fails -/
def hKy (σ : mS) (l : List Int32) (j : Int32) : Prop := ∃ e, e ∈ l ∧ sI σ 212 e = 3 ∧ sJ σ 213 e = Int32.toInt64 j
theorem hK_lvn {σ : mS} {l : List Int32} {j : Int32} (h : lvn σ l j) : hKy σ l j := by
  obtain ⟨e, h1, h2, h3, _⟩ := h
  exact ⟨e, h1, h2, h3⟩
theorem hK_fr {P : Nat → Bool} {σ τ : mS} {l : List Int32} {j : Int32} (h : hKy σ l j) (fr : m_fr P σ τ) (p1 : P 212 = false) (p2 : P 213 = false) : hKy τ l j := by
  obtain ⟨e, h1, h2, h3⟩ := h
  exact ⟨e, h1, by rw [mf_I fr p1]; exact h2, by rw [mf_J fr p2]; exact h3⟩
/-- frames of puts that change values alone -/
def qX (k : Nat) : Bool := hZ k || hV k
theorem qX_R {k : Nat} (h : inR 199 215 k = false) : qX k = false := by
  have hh : k < 199 ∨ 215 < k := by
    simp only [inR, Bool.and_eq_false_iff, decide_eq_false_iff_not] at h; omega
  simp only [qX, hZ, hV, hU, List.contains_cons, List.contains_nil, Bool.or_eq_false_iff, beq_eq_false_iff_ne]
  repeat' apply And.intro
  all_goals first | trivial | omega
theorem RT_tail {w : WD} {σ μ : mS} {es es' : Int32 → List Int32} (R : RT w σ μ es es') (τ τm : mS) (P Q : Nat → Bool) (fr : m_fr P σ τ) (frm : m_fr Q μ τm) (p1 : P 195 = false) (p2 : P 196 = false) (p3 : P 209 = false) (p4 : P 210 = false) (p5 : P 211 = false) (q1 : Q 19 = false) (q2 : Q 20 = false) (q3 : Q 28 = false) (q4 : Q 29 = false) (q5 : Q 30 = false) (mx : ∃ ps hs ff fh, MX τ (tX w) es ps hs ff fh) (mm : ∃ ps, MM τm (tM w) es' ps) (ff2 : ∀ c d, (c, d) ∈ wT w → F2 (ER w τ τm) (es c) (es' d)) : RT w τ τm es es' := by
  obtain ⟨_, ⟨ft, T⟩, _, T', E⟩ := R
  have i209 : sI τ 209 = sI σ 209 := by funext m; exact mf_I fr p3
  have i28 : sI τm 28 = sI μ 28 := by funext m; exact mf_I frm q3
  refine ⟨mx, ⟨ft, ?_⟩, mm, ?_, fun c d hcd => ⟨ff2 c d hcd, ?_, ?_⟩⟩
  · simp only [FT, i209, mf_F fr p4, mf_F fr p5]; exact T
  · simp only [FTm, i28, mf_F frm q4, mf_F frm q5]; exact T'
  · rw [mf_I fr p1, mf_I frm q2]; exact (E c d hcd).2.1
  · rw [mf_J fr p2, mf_I frm q1]; exact (E c d hcd).2.2
theorem putF_2 {N : Nat} (hN : BIG ≤ N) {w : WD} {σ μ : mS} {es es' : Int32 → List Int32} {a b kx km tx tm : Int32} {vx vm yx ym : Int64} (W : WOK w) (S : RS w σ μ) (R : RT w σ μ es es') (h : (a, b) ∈ wT w) (k : VV w kx vx km vm) (k0 : kx ≠ 0) (k8 : kx ≠ 8) (v : VV w tx yx tm ym) (f : ∃ e, e ∈ es a ∧ k_eq σ (sI σ 212 e) (sJ σ 213 e) kx vx) : ∃ τ τm, xx3_put N σ a kx vx tx yx = some (.ok τ) ∧ mm_set N μ b km vm tm ym = some (1, τm) ∧ RT w τ τm es es' ∧ m_fr qX σ τ ∧ m_fr mZ μ τm := by
  have R0 := R
  obtain ⟨⟨ps, hs, ff, fh, M⟩, ⟨ft, T⟩, ⟨ps', MM'⟩, T', E⟩ := R
  obtain ⟨f2, meta0, _⟩ := E a b h
  obtain ⟨ok, mok⟩ := VV_ok S k k0 k8
  obtain ⟨g0, g1, g2, g3, g4, _⟩ := VV_tag v
  have ha := tX_mem h
  have hb := tM_mem h
  have kc : ∀ x y, ER w σ μ x y → (k_eq σ (sI σ 212 x) (sJ σ 213 x) kx vx ↔ mk_eq μ (sI μ 32 y) (sJ μ 33 y) km vm) := fun x y r => VV_eq W S r.1 k
  have rX := put_x hN (v := yx) M (RS_dst S) ha ok g0 g1 (tag := tx)
  have rM := set_m hN (v := ym) MM' hb mok g2 (by lia) (ty := tm)
  obtain ⟨e0, f1, f3⟩ := f
  rcases rX with ⟨e, τ, hs', fh', x1, x2, x3, x4, x5, x6, x7⟩ | ⟨x1, _⟩ | ⟨x1, _⟩ | ⟨x1, _⟩
  · obtain ⟨y0, y01, y02⟩ := F2_l f2 e x1
    have y03 := (kc e y0 y02).mp x2
    rcases rM with ⟨e', τm, y1, y2, y3, y4, y5, y6, y7⟩ | ⟨y1, _⟩ | ⟨y1, _⟩ | ⟨y1, _⟩
    · refine ⟨τ, τm, x3, y3, RT_tail R0 τ τm _ _ x7 y7 rfl rfl rfl rfl rfl rfl rfl rfl rfl rfl ⟨_, _, _, _, x4⟩ ⟨_, y4⟩ (fun c d hcd => ?_), x7, y7⟩
      refine F2_mono (E c d hcd).1 (fun x y hx hy r => ?_)
      have xr := M.1.1 c (tX_mem hcd) x hx
      have yr := MM'.1.1 d (tM_mem hcd) y hy
      have eqv : x = e ↔ y = e' := by
        constructor
        · intro q
          subst q
          have ca : c = a := by rw [← xr.2.2.1]; exact (M.1.1 a ha x x1).2.2.1
          have db : d = b := (W.1 c d a b hcd h).mp ca
          subst ca; subst db
          exact MM'.1.2.2 d hb y e' hy y1 (mkeq_tr ((kc x y r).mp x2) (mkeq_sym y2))
        · intro q
          subst q
          have db : d = b := by rw [← yr.2.2.1]; exact (MM'.1.1 b hb y y1).2.2.1
          have ca : c = a := (W.1 c d a b hcd h).mpr db
          subst ca; subst db
          exact M.1.2.2 c ha x e hx x1 (keq_tr ((kc x y r).mpr y2) (keq_sym x2))
      obtain ⟨r1, r2, r3, r4⟩ := r
      refine ⟨?_, ?_, ?_, ?_⟩
      · rw [mf_I x7 rfl, mf_J x7 rfl, mf_I y7 rfl, mf_J y7 rfl]; exact r1
      · rw [x5 x xr.1, x6 x xr.1, y5 y yr.1, y6 y yr.1]
        by_cases q : x = e
        · rw [if_pos q, if_pos q, if_pos (eqv.mp q), if_pos (eqv.mp q)]; exact v
        · rw [if_neg q, if_neg q, if_neg (fun z => q (eqv.mpr z)), if_neg (fun z => q (eqv.mpr z))]; exact r2
      · rw [mf_I x7 rfl]; exact r3
      · rw [mf_I x7 rfl]; exact r4
    all_goals exact absurd y03 (y1 y0 y01)
  all_goals exact absurd f3 (x1 e0 f1)
/-- nil on a key that is not live: the system has nothing to do -/
theorem setN_2 {N : Nat} (hN : BIG ≤ N) {w : WD} {σ μ : mS} {es es' : Int32 → List Int32} {a b kx km : Int32} {vx vm : Int64} (W : WOK w) (S : RS w σ μ) (R : RT w σ μ es es') (h : (a, b) ∈ wT w) (k : VV w kx vx km vm) (k0 : kx ≠ 0) (k8 : kx ≠ 8) (f : ∀ e, e ∈ es a → k_eq σ (sI σ 212 e) (sJ σ 213 e) kx vx → sI σ 214 e = 0) : ∃ τm, mm_set N μ b km vm 0 0 = some (1, τm) ∧ RT w σ τm es es' ∧ m_fr mZ μ τm := by
  have R0 := R
  obtain ⟨⟨ps, hs, ff, fh, M⟩, ⟨ft, T⟩, ⟨ps', MM'⟩, T', E⟩ := R
  obtain ⟨f2, meta0, _⟩ := E a b h
  obtain ⟨ok, mok⟩ := VV_ok S k k0 k8
  have ha := tX_mem h
  have hb := tM_mem h
  have kc : ∀ x y, ER w σ μ x y → (k_eq σ (sI σ 212 x) (sJ σ 213 x) kx vx ↔ mk_eq μ (sI μ 32 y) (sJ μ 33 y) km vm) := fun x y r => VV_eq W S r.1 k
  have rM := set_m hN (v := 0) MM' hb mok (show (0 : Int32) ≤ 0 by decide) (by decide) (ty := 0)
  rcases rM with ⟨e', τm, y1, y2, y3, y4, y5, y6, y7⟩ | ⟨y1, y2, y3⟩ | ⟨y1, y2, _⟩ | ⟨y1, y2, _⟩
  · obtain ⟨x0, x01, x02⟩ := F2_r f2 e' y1
    have x0d := f x0 x01 ((kc x0 e' x02).mpr y2)
    have dead : sI μ 34 e' = 0 ∧ sJ μ 35 e' = 0 := by
      have q := x02.2.1
      rw [x0d] at q
      rcases q with q | q | q | q | q | q | q | q | q
      · exact ⟨q.2.1, q.2.2.2⟩
      all_goals exact absurd q.1 (by decide)
    refine ⟨τm, y3, RT_tail R0 σ τm (fun _ => false) _ mf_rfl y7 rfl rfl rfl rfl rfl rfl rfl rfl rfl rfl ⟨_, _, _, _, M⟩ ⟨_, y4⟩ (fun c d hcd => ?_), y7⟩
    refine F2_mono (E c d hcd).1 (fun x y hx hy r => ?_)
    have yr := MM'.1.1 d (tM_mem hcd) y hy
    obtain ⟨r1, r2, r3, r4⟩ := r
    refine ⟨?_, ?_, r3, r4⟩
    · rw [mf_I y7 rfl, mf_J y7 rfl]; exact r1
    · rw [y5 y yr.1, y6 y yr.1]
      by_cases q : y = e'
      · rw [if_pos q, if_pos q, ← dead.1, ← dead.2, ← q]; exact r2
      · rw [if_neg q, if_neg q]; exact r2
  · exact ⟨μ, y3, R0, mf_rfl⟩
  · exact absurd rfl y2
  · exact absurd rfl y2
theorem qX_f {k : Nat} (h : k < 199 ∨ 215 < k) : qX k = false := qX_R (inR_f h)
theorem mZ_f {k : Nat} (h : k < 23 ∨ 35 < k ∨ (28 ≤ k ∧ k ≤ 33)) : mZ k = false := by
  simp only [mZ, List.contains_cons, List.contains_nil, Bool.or_eq_false_iff, beq_eq_false_iff_ne]
  repeat' apply And.intro
  all_goals first | trivial | omega
/-- the heap behind such a change -/
theorem RH_qz {K : Int32 → Int32 → Int32 → Prop} {q : Int} {w : WD} {σ μ τ τm : mS} {es es' : Int32 → List Int32} (H : RH K q w σ μ) (R : RT w τ τm es es') (fr : m_fr qX σ τ) (frm : m_fr mZ μ τm) : RH K q w τ τm := by
  obtain ⟨h1, h2, _, h4, h5, h6, h7, h8, h9⟩ := H
  refine ⟨h1, RS_fr h2 fr frm (fun k a b => qX_f (by omega)) (fun k a b c => mZ_f (by omega)), ⟨es, es', R⟩, RF_fr h4 wle_rfl rfl fr frm (fun k a b => qX_f (by omega)) (fun k a b c => mZ_f (by omega)), ?_, ?_, ?_, ?_, h9⟩
  · exact RB_fr h5 wle_rfl rfl fr frm (fun k a b => qX_f (by omega)) (fun k a b => mZ_f (by omega))
  · rw [mf_G fr (qX_f (by omega)), mf_F frm (mZ_f (by omega))]; exact h6
  · rw [mf_F frm (mZ_f (by omega))]; exact h7
  · rw [mf_F frm (mZ_f (by omega)), mf_F frm (mZ_f (by omega)), mf_F frm (mZ_f (by omega))]; exact h8
theorem LC_RT {L : LQ} {w : WD} {g : Int32} {σ μ : mS} (H : LC L w g σ μ) : RH (eK (lE L)) (eQ (lE L) + fQ μ) w σ μ := H.1.1.1.1.1
theorem LC_q {L : LQ} {w : WD} {g : Int32} {σ μ τ τm : mS} {es es' : Int32 → List Int32} (H : LC L w g σ μ) (R : RT w τ τm es es') (fr : m_fr qX σ τ) (frm : m_fr mZ μ τm) : LC L w g τ τm :=
  LC_hp H (RH_qz (LC_RT H) R fr frm) wle_rfl rfl rfl rfl (cds_fr fr (qX_f (by omega)) (qX_f (by omega)) (qX_f (by omega))) fr frm (fun k hk => qX_f (by omega)) (fun k hk => mZ_f (by omega)) (fun k _ => by rw [frm.2.2.1 44 (mZ_f (by omega))])
/-- put on a key 1, 2 .. that has an entry -/
theorem putF_L {L : LQ} (E : EVok (lE L)) {w : WD} {g a b j tx tm : Int32} {yx ym : Int64} {es es' : Int32 → List Int32} {σ μ : mS} (H : LC L w g σ μ) (R : RT w σ μ es es') (h : (a, b) ∈ wT w) (v : VV w tx yx tm ym) (f : hKy σ (es a) j) : ∃ τ τm, xx3_put (lNn L) σ a 3 (Int32.toInt64 j) tx yx = some (.ok τ) ∧ mm_set (lNn L) μ b 2 (Int32.toInt64 j) tm ym = some (1, τm) ∧ LC L w g τ τm ∧ RT w τ τm es es' ∧ m_fr qX σ τ ∧ m_fr mZ μ τm ∧ (∀ i, hKy σ (es a) i → hKy τ (es a) i) := by
  have RR := LC_RT H
  obtain ⟨e, f1, f2, f3⟩ := f
  obtain ⟨τ, τm, o1, o2, o3, o4, o5⟩ := putF_2 (EV_N E) RR.1 RR.2.1 R h (VV_n (v := Int32.toInt64 j)) (by decide) (by decide) v ⟨e, f1, by rw [f2, f3]; exact keq_rfl⟩
  exact ⟨τ, τm, o1, o2, LC_q H o3 o4 o5, o3, o4, o5, fun i hi => hK_fr hi o4 rfl rfl⟩
theorem setN_L {L : LQ} (E : EVok (lE L)) {w : WD} {g a b : Int32} {x : Int64} {es es' : Int32 → List Int32} {σ μ : mS} (H : LC L w g σ μ) (R : RT w σ μ es es') (h : (a, b) ∈ wT w) (f : ∀ e, e ∈ es a → k_eq σ (sI σ 212 e) (sJ σ 213 e) 3 x → sI σ 214 e = 0) : ∃ τm, mm_set (lNn L) μ b 2 x 0 0 = some (1, τm) ∧ LC L w g σ τm := by
  have RR := LC_RT H
  obtain ⟨τm, o1, o2, o3⟩ := setN_2 (EV_N E) RR.1 RR.2.1 R h (VV_n (v := x)) (by decide) (by decide) f
  exact ⟨τm, o1, LC_q H o2 mf_rfl o3⟩
/-- the length, with what it says of the keys -/
theorem lenF_L {L : LQ} (E : EVok (lE L)) {w : WD} {g a b : Int32} {σ μ : mS} (H : LC L w g σ μ) (h : (a, b) ∈ wT w) : ∃ n τ τm es es', xx3_length (lNn L) σ a = some (n, τ) ∧ mm_length (lNn L) μ b = some (Int32.toInt64 n, τm) ∧ 0 ≤ n ∧ n ≤ 20000 ∧ LC L w g τ τm ∧ LC L w g τ μ ∧ RT w τ τm es es' ∧ isLen τ (es a) n ∧ m_fr hU σ τ ∧ m_fr (fun k => [25, 42, 43].contains k) μ τm := by
  obtain ⟨n, τ, τm, o1, o2, n0, n1, L1, L2, fr, frm⟩ := len_X E H h
  have RR := LC_RT H
  obtain ⟨es, es', R⟩ := RR.2.2.1
  obtain ⟨⟨ps, hs, ff, fh, M⟩, _⟩ := id R
  obtain ⟨n', τ', hs', fh', q1, q2, q3, q4⟩ := length_x (EV_N E) M (RS_dst RR.2.1) (tX_mem h)
  have q1' : xx3_length (lNn L) σ a = some (n', τ') := q1
  rw [o1] at q1'
  cases q1'
  obtain ⟨n2, τ2, τm2, p1, p2, _, _, p3, p4, p5, p6⟩ := length_2 (EV_N E) RR.2.1 R h
  have p1' : xx3_length (lNn L) σ a = some (n2, τ2) := p1
  have p2' : mm_length (lNn L) μ b = some (Int32.toInt64 n2, τm2) := p2
  rw [o1] at p1'
  cases p1'
  rw [o2] at p2'
  cases p2'
  refine ⟨n, τ, τm, es, es', o1, o2, n0, n1, L1, L2, p3, ?_, fr, frm⟩
  obtain ⟨i0, i1, i2, i3⟩ := q2
  exact ⟨i0, i1, fun k k0 k1 => (mf_lvn fr rfl rfl rfl).mpr (i2 k k0 k1), fun q => i3 ((mf_lvn fr rfl rfl rfl).mp q)⟩
