/-! LAYER 2: a coroutine is made: both sides -/
def wAddC (w : WD) (a b : Int32) : WD := (wS w, wX w, wT w, wF w, wB w, wC w ++ [(a, b)])
theorem wAddC_le {w : WD} {a b : Int32} : wle w (wAddC w a b) := ⟨fun _ h => h, fun _ h => h, fun _ h => h, fun _ h => h, fun _ h => h, fun _ h => List.mem_append.mpr (.inl h)⟩
theorem wAddC_mem {w : WD} {a b : Int32} : (a, b) ∈ wC (wAddC w a b) := List.mem_append.mpr (.inr (List.mem_singleton.mpr rfl))
theorem bij_nd : ∀ {l : PL2}, bij l → (l.map Prod.fst).Nodup → (l.map Prod.snd).Nodup
  | [], _, _ => List.nodup_nil
  | (a, b) :: l, h, hn => by
    simp only [List.map_cons, List.nodup_cons] at hn ⊢
    refine ⟨fun hb => ?_, bij_nd (fun p q r s h1 h2 => h p q r s (List.mem_cons_of_mem _ h1) (List.mem_cons_of_mem _ h2)) hn.2⟩
    obtain ⟨⟨x, y⟩, hxy, e⟩ := List.mem_map.mp hb
    have e' : y = b := e
    subst e'
    have := (h a y x y List.mem_cons_self (List.mem_cons_of_mem _ hxy)).mpr rfl
    subst this
    exact hn.1 (List.mem_map_of_mem (f := Prod.fst) hxy)
/-- all places below 120 -/
def l120 : List Int32 := (List.range 120).map Int32.ofNat
theorem l120_mem {d : Int32} (h0 : 0 ≤ d) (h1 : d < 120) : d ∈ l120 := by
  refine List.mem_map.mpr ⟨d.toNatClampNeg, List.mem_range.mpr ?_, oN_cl' h0⟩
  have := cl_lt' h0 h1
  exact this
theorem l120_nd : l120.Nodup := by decide +kernel
theorem l120_in {d : Int32} (h : d ∈ l120) : 0 ≤ d ∧ d < 120 := by
  obtain ⟨k, h1, rfl⟩ := List.mem_map.mp h
  have h2 := List.mem_range.mp h1
  exact ⟨oN_nn (by omega), by rw [tI_lt, tI_lit (by omega)]; show (k : Int) < 120; omega⟩
theorem BC_pt {S : SR} {w w' : WD} {xf : Int32 → List Int32} {σ μ τ τm : mS} (wl : wle w w') (hc : cds w σ τ) (hf : ∀ f, xcs σ τ f) (m : ∀ k j, j < 10 → mff τm k j = mff μ k j) (i144 : ∀ x, sI τm 144 x = sI μ 144 x) (i141 : sI τm 141 = sI μ 141) (j142 : sJ τm 142 = sJ μ 142) : ∀ {e : Int32 × Int32} {rest : PL2}, BC S w xf σ μ e rest → (∀ p, p ∈ e :: rest → (∀ k, 323 ≤ k → k ≤ 334 → k ≠ 325 → k ≠ 326 → sI τ k p.1 = sI σ k p.1) ∧ (∀ k, 156 ≤ k → k ≤ 170 → k ≠ 157 → sI τm k p.2 = sI μ k p.2)) → BC S w' xf τ τm e rest
  | (c, d), [], h, hp => by
    obtain ⟨rfl, rfl, h3, h4⟩ := h
    obtain ⟨_, q⟩ := hp (0, 120) List.mem_cons_self
    have q162 := q 162 (by omega) (by omega) (by omega)
    have q161 := q 161 (by omega) (by omega) (by omega)
    exact ⟨rfl, rfl, by rw [← h3]; exact q162, by rw [← h4]; exact q161⟩
  | (c, d), e :: rest, h, hp => by
    obtain ⟨h1, h2, h3, h4, h5, h6, h7, h8, h9, h10⟩ := h
    have kb' := BC_kb h10
    obtain ⟨x, i⟩ := hp (c, d) List.mem_cons_self
    obtain ⟨xe, ie⟩ := hp e (List.mem_cons_of_mem _ List.mem_cons_self)
    have i162 : sI τm 162 d = sI μ 162 d := i 162 (by omega) (by omega) (by omega)
    have i161 : sI τm 161 d = sI μ 161 d := i 161 (by omega) (by omega) (by omega)
    have i159 : sI τm 159 d = sI μ 159 d := i 159 (by omega) (by omega) (by omega)
    have i166 : sI τm 166 d = sI μ 166 d := i 166 (by omega) (by omega) (by omega)
    have i164 : sI τm 164 d = sI μ 164 d := i 164 (by omega) (by omega) (by omega)
    have i160 : sI τm 160 d = sI μ 160 d := i 160 (by omega) (by omega) (by omega)
    have i156 : sI τm 156 e.2 = sI μ 156 e.2 := ie 156 (by omega) (by omega) (by omega)
    have j162 : sI τm 162 e.2 = sI μ 162 e.2 := ie 162 (by omega) (by omega) (by omega)
    have j161 : sI τm 161 e.2 = sI μ 161 e.2 := ie 161 (by omega) (by omega) (by omega)
    have x324 : sI τ 324 c = sI σ 324 c := x 324 (by omega) (by omega) (by omega) (by omega)
    have x328 : sI τ 328 c = sI σ 328 c := x 328 (by omega) (by omega) (by omega) (by omega)
    have x327 : sI τ 327 c = sI σ 327 c := x 327 (by omega) (by omega) (by omega) (by omega)
    have x323 : sI τ 323 e.1 = sI σ 323 e.1 := xe 323 (by omega) (by omega) (by omega) (by omega)
    have x329 : sI τ 329 c = sI σ 329 c := x 329 (by omega) (by omega) (by omega) (by omega)
    have x330 : sI τ 330 c = sI σ 330 c := x 330 (by omega) (by omega) (by omega) (by omega)
    have x331 : sI τ 331 c = sI σ 331 c := x 331 (by omega) (by omega) (by omega) (by omega)
    refine ⟨wl.2.2.2.2.2 _ h1, ?_, ?_, ?_, ?_, ?_, ?_, ?_, ?_, BC_pt wl hc hf m i144 i141 j142 h10 (fun p hp' => hp p (List.mem_cons_of_mem _ hp'))⟩
    · rw [x324, i159, i166, i164]; exact h2
    · rw [i162]; exact h3
    · rw [x328, i162, i144]; exact h4
    · rw [i161, i162, m _ 5 (by omega)]; exact h5
    · rw [x327, i160]; exact h6
    · rw [x323, i156]; exact h7
    · rw [i161, i162]; exact h8
    · rw [i162, j162, j161, x329, x330, x331, m _ 5 (by omega), m _ 6 (by omega), m _ 7 (by omega), i141, j142]
      exact FL_cg h9 ⟨kb'.1, by lia, kb'.2.2.1, kb'.2.2.2.1⟩ wl (fun f _ => hf f) hc (fun k j _ _ hj => m k j hj) (fun _ _ _ => ⟨rfl, rfl⟩)
set_option maxHeartbeats 2000000 in
theorem thread_ME {N : Nat} (hN : BIG ≤ N) {S : SR} {K : Int32 → Int32 → Int32 → Prop} {q : Int} {w : WD} {xf : Int32 → List Int32} {c d : Int32} {rest : PL2} {σ μ : mS} (H : ME S K q w xf c d rest σ μ) (hx : ∀ a, a ∉ cX w → xf a = []) {vx : Int64} {f : Int32} (v : VV w 6 vx 5 (Int32.toInt64 f)) :
    (xx5_make N σ 6 vx = some (.error (1101, σ)) ∧ mm_makeThread N μ f = bd (mm_breakOff N μ 3) (fun z => some (-1, z)))
    ∨ (∃ a b τ τm, xx5_make N σ 6 vx = some (.ok (a, τ)) ∧ mm_makeThread N μ f = some (b, τm) ∧ (1 ≤ a ∧ a ≤ 120) ∧ (0 ≤ b ∧ b < 120) ∧ ME S K q (wAddC w a b) xf c d rest τ τm ∧ m_fr tX5 σ τ ∧ m_fr tM5 μ τm) := by
  have CC := ME_c H
  obtain ⟨⟨RR, h1⟩, Z, HH, X, C, Bc, ⟨n1, n2, n3, n4⟩, nd, ⟨o1, o2, o3, o4, o5⟩, f1, f2, f3⟩ := H
  obtain ⟨C1, C2, ⟨fcs, s1, s2, s3, s4⟩, ⟨c4, c4'⟩, C5, KLh⟩ := C
  have W := RR.1
  have hB : BIG = 8589934592 := rfl
  have lX : ((wC w).map Prod.fst).length = (wC w).length := List.length_map ..
  have lM : ((wC w).map Prod.snd).length = (wC w).length := List.length_map ..
  have ndf : ((wC w).map Prod.fst).Nodup := (List.nodup_append.mp s2).2.1
  have nds := bij_nd W.2.2.1 ndf
  have z120 : (120 : Int32).toInt = 120 := rfl
  have bnd : ∀ i j : Int32, (j.toInt - i.toInt).toNat < N := fun i j => by
    have := tI_rng i
    have := tI_rng j
    omega
  have in170 : ∀ x, x ∈ (wC w).map Prod.snd → (0 ≤ x ∧ x < 120) ∧ sI μ 170 x = 1 := fun x hx => by
    obtain ⟨⟨p, y⟩, hp, e⟩ := List.mem_map.mp hx
    have e' : y = x := e
    subst e'
    exact ⟨(W.2.2.2.2.2 p y hp).2, (C1 p y hp).2.2.2.1⟩
  have sub : ((wC w).map Prod.snd).length ≤ 120 := by
    have := List.Nodup.length_le_of_subset nds (l₂ := l120) (fun x hx => l120_mem (in170 x hx).1.1 (in170 x hx).1.2)
    exact this
  by_cases full : sF σ 338 = 120
  · -- none is free
    left
    refine ⟨thr_x0 full, ?_⟩
    have len : (wC w).length = 120 := by
      rw [full, z120] at c4; omega
    have al : ∀ x, 0 ≤ x → x < 120 → sI μ 170 x ≠ 0 := fun x x0 x1 e => by
      have nx : x ∉ (wC w).map Prod.snd := fun hx => by
        rw [(in170 x hx).2] at e; exact absurd e (by decide)
      have := List.Nodup.length_le_of_subset (l₁ := x :: (wC w).map Prod.snd) (List.nodup_cons.mpr ⟨nx, nds⟩) (l₂ := l120) (fun y hy => by
        rcases List.mem_cons.mp hy with q | q
        · rw [q]; exact l120_mem x0 x1
        · exact l120_mem (in170 y q).1.1 (in170 y q).1.2)
      rw [List.length_cons, lM, len] at this
      have e120 : l120.length = 120 := by decide +kernel
      omega
    have e1 := thr_lp (N := N) (f := f) (b := 120) (Int32.le_refl _) (.inl rfl) (fun x x0 x1 => al x x0 x1) N 0 (Int32.le_refl _) (by lia) (bnd _ _)
    have e2 : mm_makeThread_23 N f 120 μ = bd (mm_breakOff N μ 3) (fun z => some (-1, z)) := by
      rw [mm_makeThread_23, if_pos rfl]
    rw [mm_makeThread]
    exact e1.trans e2
  right
  have lt120 : (wC w).length < 120 := by
    rw [tI_eq, z120] at full; omega
  -- the free ones
  obtain ⟨a, fcs', rfl⟩ : ∃ a fcs', fcs = a :: fcs' := by
    cases fcs with
    | nil => simp only [List.nil_append, lX] at s4; omega
    | cons a l => exact ⟨a, l, rfl⟩
  obtain ⟨ea, sg⟩ := s1
  obtain ⟨a0, a1⟩ := s3 a (by simp)
  have hna : a ∉ (wC w).map Prod.fst := fun hh => by
    have := (List.nodup_append.mp s2).2.2 a List.mem_cons_self a hh
    exact this rfl
  have hnf : a ∉ fcs' := (List.nodup_cons.mp (List.nodup_append.mp s2).1).1
  have hnc : a ∉ cX w := fun hh => by
    rcases List.mem_cons.mp hh with q | q
    · rw [q] at a0; exact absurd a0 (by decide)
    · exact hna q
  -- the least place of the reference
  obtain ⟨b, b0, b1, b2, b3⟩ : ∃ b : Int32, 0 ≤ b ∧ b < 120 ∧ sI μ 170 b = 0 ∧ ∀ x, 0 ≤ x → x < b → sI μ 170 x ≠ 0 := by
    rcases thr_least (μ := μ) 120 (by omega) with h | h
    · exact h
    · exfalso
      have := List.Nodup.length_le_of_subset l120_nd (l₂ := (wC w).map Prod.snd) (fun x hx => by
        obtain ⟨x0, x1⟩ := l120_in hx
        by_cases e : x ∈ (wC w).map Prod.snd
        · exact e
        · exact absurd (C2 x x0 x1 e) (h x x0 x1))
      rw [lM] at this
      have e120 : l120.length = 120 := by decide +kernel
      omega
  have hnb : b ∉ (wC w).map Prod.snd := fun hh => by
    rw [(in170 b hh).2] at b2; exact absurd b2 (by decide)
  obtain ⟨τ, x0, fr, x1, x2, x3, xI, xJ, x323, x324, x325, x326, x336, x335⟩ := thr_x (N := N) (v := vx) ea (by lia) (by lia) full
  obtain ⟨τm, y0, frm, y1, y2, yI, y170, y157, y158, y156, y159, y164, y166⟩ := thr_m23 (N := N) (μ := μ) (f := f) b0 b1
  have my : mm_makeThread N μ f = some (b, τm) := by
    rw [mm_makeThread, thr_lp (b := b) (by lia) (.inr b2) b3 N 0 (by decide) b0 (bnd _ _)]; exact y0
  refine ⟨a, b, τ, τm, x0, my, ⟨a0, a1⟩, ⟨b0, b1⟩, ?_, fr, frm⟩
  -- what stays
  have p : ∀ k, (k < 194 ∨ (194 < k ∧ k < 323) ∨ (327 < k ∧ k < 335) ∨ 338 < k) → tX5 k = false := fun k h => tX5_f h
  have p' : ∀ k, (k < 18 ∨ (18 < k ∧ k < 156) ∨ (159 < k ∧ k < 164) ∨ k = 165 ∨ (166 < k ∧ k < 170) ∨ 171 < k) → tM5 k = false := fun k h => tM5_f h
  have wl : wle w (wAddC w a b) := wAddC_le
  have hc : cds w σ τ := cds_fr fr (p 257 (by omega)) (p 261 (by omega)) (p 222 (by omega))
  have hxcs : ∀ g, xcs σ τ g := fun g => xcs_pK fr (fun k hk => p k (by omega))
  have mff' : ∀ k j, j < 10 → mff τm k j = mff μ k j := fun k j hj => mf_I frm (p' (144 + j) (by omega))
  have cXe : cX (wAddC w a b) = cX w ++ [a] := by
    show 0 :: ((wC w ++ [(a, b)]).map Prod.fst) = _
    rw [List.map_append]; rfl
  have fAe : fAll (wAddC w a b) xf = fAll w xf := by
    simp only [fAll, cXe, List.map_append, List.flatten_append, List.map_cons, List.map_nil, List.flatten_cons, List.flatten_nil, hx a hnc, List.append_nil]
  have cne : ∀ x, x ∈ cX w → 0 ≤ x ∧ x ≠ a := fun x hh => by
    refine ⟨?_, fun q => hnc (by rw [← q]; exact hh)⟩
    rcases List.mem_cons.mp hh with q | q
    · rw [q]; decide
    · have := s3 x (List.mem_append.mpr (.inr q)); lia
  have dne : ∀ x y, (x, y) ∈ wC w ∨ (x = 0 ∧ y = 120) → 0 ≤ y ∧ y ≠ b := fun x y hh => by
    rcases hh with hh | ⟨_, rfl⟩
    · exact ⟨(W.2.2.2.2.2 x y hh).2.1, fun q => hnb (by rw [← q]; exact List.mem_map_of_mem (f := Prod.snd) hh)⟩
    · exact ⟨by decide, by lia⟩
  have chain : ∀ pr, pr ∈ (c, d) :: rest → (pr.1 ∈ cX w) ∧ ((pr.1, pr.2) ∈ wC w ∨ (pr.1 = 0 ∧ pr.2 = 120)) := fun pr hpr => by
    rcases BC_mem Bc pr hpr with e | ⟨e, _⟩
    · rw [e]; exact ⟨List.mem_cons_self, .inr ⟨rfl, rfl⟩⟩
    · exact ⟨List.mem_cons_of_mem _ (List.mem_map_of_mem (f := Prod.fst) e), .inl e⟩
  have e157 : sI τm 157 120 = sI μ 157 120 := yI 157 120 (by decide) (by lia)
  have e18 : (sF μ 18 + 1).toInt = (sF μ 18).toInt + 1 := tI_s (RH_ser RR)
  have e171 : (sF μ 171 + 1).toInt = (sF μ 171).toInt + 1 := by
    have z1 : (1 : Int32).toInt = 1 := rfl
    rw [tI_add] <;> omega
  have fq : fQ τm = fQ μ + 1 := by
    simp only [fQ]; rw [y2, e157, e171]; omega
  have fqb : fQ τm ≤ 121 := by
    simp only [fQ]; rw [y2, e171]
    split <;> omega
  obtain ⟨es, es', RT0⟩ := RR.2.2.1
  have RT1 : RT (wAddC w a b) τ τm es es' := RT_fr RT0 wl rfl fr frm (fun k hk => p k (by omega)) (fun k hk => p' k (by omega))
  have RH1 : RH K (q + fQ τm) (wAddC w a b) τ τm := by
    refine ⟨⟨W.1, W.2.1, bij_snoc W.2.2.1 hna hnb, W.2.2.2.1, W.2.2.2.2.1, fun x y hh => ?_⟩, RS_fr RR.2.1 fr frm (fun k a b => p k (by omega)) (fun k a b c => p' k (by omega)), ⟨es, es', RT1⟩, RF_fr RR.2.2.2.1 wl rfl fr frm (fun k a b => p k (by omega)) (fun k a b c => p' k (by omega)), RB_fr RR.2.2.2.2.1 wl rfl fr frm (fun k a b => p k (by omega)) (fun k a b => p' k (by omega)), ?_, ?_, ?_, by omega⟩
    · rcases List.mem_append.mp hh with hh | hh
      · exact W.2.2.2.2.2 x y hh
      · obtain ⟨rfl, rfl⟩ := Prod.mk.inj (List.mem_singleton.mp hh)
        exact ⟨a0, b0, b1⟩
    · rw [x3, y1, RR.2.2.2.2.2.1, ll_ad RR.2.2.2.2.2.2.1 (RH_ser RR)]
    · have := RR.2.2.2.2.2.2.1
      have := RH_ser RR
      rw [y1]; lia
    · rw [y1, mf_F (k := 29) frm rfl, mf_F (k := 48) frm rfl, e18, fq]
      have := RR.2.2.2.2.2.2.2.1
      omega
  refine ⟨⟨RH1, h1⟩, ZS_fr Z fr rfl, HO_fr HH wl fr frm (fun k hk => p k (by omega)) (fun k a b => p' k (by omega)) (fun x y _ => xL_fr fr (fun k a b => p k (by omega))) (fun k _ => by rw [frm.2.2.1 44 rfl]), ?_, ?_, ?_, ?_, nd, ?_, ?_, ?_, ?_⟩
  · -- the system's calls
    obtain ⟨fc, bl, h1, h2, h3, h4, h5, ⟨k1, k2, k3, k4⟩, h7, h8⟩ := X
    have x : ∀ k, 343 ≤ k → k ≤ 365 → sI τ k = sI σ k := fun k a b => by funext m; exact mf_I fr (p k (by omega))
    have y : ∀ k, 343 ≤ k → k ≤ 365 → sF τ k = sF σ k := fun k a b => mf_F fr (p k (by omega))
    refine ⟨fc, bl, ?_, fun e he => ?_, by rw [fAe]; exact h3, by rw [fAe]; exact h4, by rw [fAe]; exact h5, ⟨?_, ?_, ?_, ?_⟩, h7, ?_⟩
    · rw [x 356 (by omega) (by omega), y 357 (by omega) (by omega)]; exact h1
    · rw [x 356 (by omega) (by omega)]
      rw [cXe] at he
      rcases List.mem_append.mp he with q | q
      · rw [xI 326 e (cne e q).1 (cne e q).2]; exact h2 e q
      · have := List.mem_singleton.mp q
        subst this
        rw [x326, hx e hnc]; rfl
    · rw [x 359 (by omega) (by omega), y 361 (by omega) (by omega)]; exact k1
    · rw [x 360 (by omega) (by omega), y 362 (by omega) (by omega)]; exact k2
    · rw [x 347 (by omega) (by omega), x 349 (by omega) (by omega), y 363 (by omega) (by omega)]; exact k3
    · rw [y 363 (by omega) (by omega)]; exact k4
    · rw [x 349 (by omega) (by omega), fAe]; exact h8
  · -- coroutines
    refine ⟨fun e g heg => ?_, fun g g0 g1 hg => ?_, ⟨fcs', ?_, ?_, ?_, ?_⟩, ⟨?_, ?_⟩, ?_, ?_⟩
    · rcases List.mem_append.mp heg with heg | heg
      · obtain ⟨q1, q2, q3, q4, q5⟩ := C1 e g heg
        have ec : e ∈ cX w := List.mem_cons_of_mem _ (List.mem_map_of_mem (f := Prod.fst) heg)
        obtain ⟨e0, ea⟩ := cne e ec
        obtain ⟨g0, gb⟩ := dne e g (.inl heg)
        refine ⟨q1, by rw [xI 323 e e0 ea, yI 156 g g0 gb]; exact q2, by rw [xJ 335 e e0 ea, yI 157 g g0 gb]; exact q3, by rw [yI 170 g g0 gb]; exact q4, q5.imp_right (fun kd => ?_)⟩
        refine cKd_cg kd wl rfl (fun f _ => hxcs f) hc ⟨fun k _ _ _ => xI k e e0 ea, xJ 325 e e0 ea, xJ 335 e e0 ea⟩ ⟨fun k _ _ => yI k g g0 gb, fun k j _ _ _ => ?_, fun i _ _ => ?_⟩
        · simp only [kff]
          rw [yI 165 g g0 gb, mf_I (k := 176) frm rfl]
        · simp only [kpt, kpv]
          rw [yI 163 g g0 gb, mf_I (k := 173) frm rfl, mf_J (k := 174) frm rfl]
          exact ⟨rfl, rfl⟩
      · obtain ⟨rfl, rfl⟩ := Prod.mk.inj (List.mem_singleton.mp heg)
        refine ⟨a1, by rw [x323, y156], ?_, y170, .inr (.inr (.inl ⟨x323, hx e hnc, x324, y159, ?_, y166, y164⟩))⟩
        · rw [x335, y157, RR.2.2.2.2.2.1, ll_ad RR.2.2.2.2.2.2.1 (RH_ser RR)]
        · rw [x325, y158]; exact VV_mono wl v
    · have hg' : g ∉ (wC w).map Prod.snd ∧ g ≠ b := by
        have e : (wC (wAddC w a b)).map Prod.snd = (wC w).map Prod.snd ++ [b] := by
          show ((wC w ++ [(a, b)]).map Prod.snd) = _
          rw [List.map_append]; rfl
        rw [e] at hg
        exact ⟨fun q => hg (List.mem_append.mpr (.inl q)), fun q => hg (List.mem_append.mpr (.inr (by rw [q]; exact List.mem_singleton.mpr rfl)))⟩
      rw [yI 170 g g0 hg'.2]; exact C2 g g0 g1 hg'.1
    · rw [x1]
      refine seg_congr sg (fun x hx' => ?_)
      have := s3 x (List.mem_append.mpr (.inl (List.mem_cons_of_mem _ hx')))
      exact xI 336 x (by lia) (fun q => hnf (by rw [← q]; exact hx'))
    · have e : fcs' ++ (wC (wAddC w a b)).map Prod.fst = fcs' ++ ((wC w).map Prod.fst ++ [a]) := by
        show fcs' ++ ((wC w ++ [(a, b)]).map Prod.fst) = _
        rw [List.map_append]; rfl
      rw [e]
      have pm : (fcs' ++ ((wC w).map Prod.fst ++ [a])).Perm (a :: fcs' ++ (wC w).map Prod.fst) := by
        rw [← List.append_assoc]
        exact List.perm_append_singleton a _
      exact pm.nodup_iff.mpr s2
    · intro x hx'
      have e : fcs' ++ (wC (wAddC w a b)).map Prod.fst = fcs' ++ ((wC w).map Prod.fst ++ [a]) := by
        show fcs' ++ ((wC w ++ [(a, b)]).map Prod.fst) = _
        rw [List.map_append]; rfl
      rw [e] at hx'
      refine s3 x ?_
      rcases List.mem_append.mp hx' with q | q
      · exact List.mem_append.mpr (.inl (List.mem_cons_of_mem _ q))
      · rcases List.mem_append.mp q with q | q
        · exact List.mem_append.mpr (.inr q)
        · rw [List.mem_singleton.mp q]; exact List.mem_append.mpr (.inl List.mem_cons_self)
    · show (fcs' ++ ((wC w ++ [(a, b)]).map Prod.fst)).length = 120
      simp only [List.length_append, List.length_map, List.length_cons, List.length_nil] at s4 ⊢
      omega
    · show (sF τ 338).toInt = ((wC w ++ [(a, b)]).length : Int)
      have z1 : (1 : Int32).toInt = 1 := rfl
      have e : (sF σ 338 + 1).toInt = (sF σ 338).toInt + 1 := by
        rw [tI_add] <;> omega
      rw [x2, e, List.length_append]
      simp only [List.length_cons, List.length_nil]; omega
    · show (sF τm 171).toInt = ((wC w ++ [(a, b)]).length : Int)
      rw [y2, e171, List.length_append]
      simp only [List.length_cons, List.length_nil]; omega
    · rw [xJ 335 0 (by decide) (fun q => by rw [← q] at a0; exact absurd a0 (by decide)), e157]; exact C5
    · refine KL_sub KLh (fun g hg => ?_) (mf_F frm (p' 175 (by omega))) (mf_F frm (p' 177 (by omega)))
      obtain ⟨g0, g1, g2, g3, g4⟩ := hg
      have gb : g ≠ b := fun q => by rw [q, y159] at g4; exact absurd g4 (by decide)
      rw [yI 170 g g0 gb] at g2
      rw [yI 156 g g0 gb] at g3
      rw [yI 159 g g0 gb] at g4
      exact ⟨⟨g0, g1, g2, g3, g4⟩, yI 163 g g0 gb, yI 164 g g0 gb, yI 165 g g0 gb, yI 166 g g0 gb⟩
  · refine BC_pt wl hc hxcs mff' (fun x => mf_I frm (p' 144 (by omega))) (by funext x; exact mf_I frm (p' 141 (by omega))) (by funext x; exact mf_J frm (p' 142 (by omega))) Bc (fun pr hpr => ?_)
    obtain ⟨q1, q2⟩ := chain pr hpr
    obtain ⟨e0, ea⟩ := cne pr.1 q1
    obtain ⟨g0, gb⟩ := dne pr.1 pr.2 q2
    exact ⟨fun k _ _ _ _ => xI k pr.1 e0 ea, fun k _ _ _ => yI k pr.2 g0 gb⟩
  · obtain ⟨q1, q2⟩ := chain (c, d) List.mem_cons_self
    obtain ⟨e0, ea⟩ := cne c q1
    obtain ⟨g0, gb⟩ := dne c d q2
    exact ⟨by rw [mf_F fr (p 339 (by omega))]; exact n1, by rw [mf_F frm (p' 172 (by omega))]; exact n2, by rw [xI 323 c e0 ea]; exact n3, by rw [yI 156 d g0 gb]; exact n4⟩
  · have ks : kSum (wAddC w a b) τm = kSum w μ := by
      show ((wC w ++ [(a, b)]).map (fun p => (sI τm 166 p.2).toInt)).sum = _
      rw [List.map_append, List.sum_append]
      simp only [List.map_cons, List.map_nil, List.sum_cons, List.sum_nil, y166, show (0 : Int32).toInt = 0 from rfl, kSum]
      have : (wC w).map (fun p => (sI τm 166 p.2).toInt) = (wC w).map (fun p => (sI μ 166 p.2).toInt) := List.map_congr_left (fun pr hpr => by
        obtain ⟨g0, gb⟩ := dne pr.1 pr.2 (.inl hpr)
        rw [yI 166 pr.2 g0 gb])
      rw [this]; omega
    rw [mf_F fr (p 358 (by omega)), mf_F frm (p' 155 (by omega)), mf_F frm (p' 154 (by omega)), fAe, ks]
    exact ⟨o1, o2, o3, o4, o5⟩
  · rw [mf_F fr (p 396 (by omega)), mf_F frm (p' 180 (by omega))]; exact f1
  · rw [mf_F fr (p 396 (by omega))]; exact f2
  · rw [mf_F frm (p' 178 (by omega))]; exact f3
