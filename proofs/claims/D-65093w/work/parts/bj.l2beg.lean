/-! LAYER 2: a call begins on both sides -/
/-- no other coroutine has calls -/
def NX (w : WD) (xf : Int32 → List Int32) : Prop := ∀ a, a ∉ cX w → xf a = []
theorem NX_wl {w w' : WD} {xf : Int32 → List Int32} (h : NX w xf) (wl : wle w w') : NX w' xf := fun a ha => h a (fun q => ha (by
  rcases List.mem_cons.mp q with q | q
  · rw [q]; exact List.mem_cons_self
  · obtain ⟨⟨x, y⟩, h1, h2⟩ := List.mem_map.mp q
    exact List.mem_cons_of_mem _ (List.mem_map.mpr ⟨(x, y), wl.2.2.2.2.2 _ h1, h2⟩)))
theorem BC_xf {S : SR} {w : WD} {xf yf : Int32 → List Int32} {σ μ : mS} (hy : ∀ a, a ∈ cX w → yf a = xf a) : ∀ {e : Int32 × Int32} {rest : PL2}, BC S w xf σ μ e rest → BC S w yf σ μ e rest
  | (c, d), [], h => h
  | (c, d), e :: rest, h => by
    obtain ⟨h1, h2, h3, h4, h5, h6, h7, h8, h9, h10⟩ := h
    have ec : e.1 ∈ cX w := by
      rcases BC_mem h10 e List.mem_cons_self with q | ⟨q, _⟩
      · rw [q]; exact List.mem_cons_self
      · exact List.mem_cons_of_mem _ (List.mem_map_of_mem (f := Prod.fst) q)
    exact ⟨h1, h2, h3, h4, h5, h6, h7, h8, by rw [hy _ ec]; exact h9, BC_xf hy h10⟩
theorem CL_xf {e : EV} {w : WD} {xf yf : Int32 → List Int32} {c d : Int32} {rest : PL2} {ct : CT} {σ μ : mS} (H : CL e w xf c d rest ct σ μ) (hy : ∀ a, a ∈ cX w → yf a = xf a) : CL e w yf c d rest ct σ μ := by
  obtain ⟨M, V, F⟩ := H
  obtain ⟨R, Z, HH, X, C, B, n, nd, o, f⟩ := M
  have fe : fAll w yf = fAll w xf := by
    simp only [fAll]
    rw [List.map_congr_left hy]
  have hc : c ∈ cX w := by
    rcases BC_mem B (c, d) List.mem_cons_self with q | ⟨q, _⟩
    · have : c = 0 := congrArg Prod.fst q
      rw [this]; exact List.mem_cons_self
    · exact List.mem_cons_of_mem _ (List.mem_map_of_mem (f := Prod.fst) q)
  refine ⟨⟨R, Z, HH, ?_, ?_, BC_xf hy B, n, nd, ?_, f⟩, V, ?_⟩
  · obtain ⟨fc, bl, h1, h2, h3, h4, h5, h6, h7, h8⟩ := X
    exact ⟨fc, bl, h1, fun x hx => by rw [hy x hx]; exact h2 x hx, by rw [fe]; exact h3, by rw [fe]; exact h4, by rw [fe]; exact h5, h6, h7, by rw [fe]; exact h8⟩
  · obtain ⟨C1, C2⟩ := C
    refine ⟨fun x y hxy => ?_, C2⟩
    obtain ⟨q1, q2, q3, q4, q5⟩ := C1 x y hxy
    refine ⟨q1, q2, q3, q4, q5.imp_right (fun k => ?_)⟩
    have e := hy x (List.mem_cons_of_mem _ (List.mem_map_of_mem (f := Prod.fst) hxy))
    simp only [cKd, e]
    exact k
  · rw [fe]; exact o
  · rw [hy c hc]; exact F
theorem NX_of (w : WD) (xf : Int32 → List Int32) [DecidablePred (fun a => a ∈ cX w)] : NX w (fun a => if a ∈ cX w then xf a else []) ∧ (∀ a, a ∈ cX w → (fun a => if a ∈ cX w then xf a else []) a = xf a) := ⟨fun a h => if_neg h, fun a h => if_pos h⟩
/-- a function of the library: it gives, or an error, or a stop -/
def LBst (e : EV) : Prop := ∀ (dT : Nat) w xf c d rest ct σ μ n (lib : Nat), CL e w xf c d rest ct σ μ → NX w xf → AR w σ μ ct.2.2.2.1 n → n ≤ 100 → lib < 46 → lib ≠ 6 → lib ≠ 39 → lib ≠ 40 → (∃ w' τ τm gn, bxx8_call (eN e) (rc_xx6_begin (eN e) (dT + 1)) σ (Int32.ofNat lib) ct.1 ct.2.1 ct.2.2.1 = some (.ok (1, τ)) ∧ mm_own (eN e) μ (Int32.ofNat lib) ct.2.2.2.1 n ct.2.2.2.2.1 ct.2.2.2.2.2 = mm_finish (eN e) τm ct.2.2.2.1 ct.2.2.2.2.1 ct.2.2.2.2.2 ∧ CL e w' xf c d rest ct τ τm ∧ GV w' τ τm gn ∧ gn ≤ 100 ∧ sF τ 396 = sF σ 396) ∨ OE e w xf c d rest ct σ μ (fun z => z) (bxx8_call (eN e) (rc_xx6_begin (eN e) (dT + 1)) σ (Int32.ofNat lib) ct.1 ct.2.1 ct.2.2.1) (mm_own (eN e) μ (Int32.ofNat lib) ct.2.2.2.1 n ct.2.2.2.2.1 ct.2.2.2.2.2)
theorem nn_200 {e : EV} {w : WD} {xf : Int32 → List Int32} {c d : Int32} {rest : PL2} {ct : CT} {σ μ : mS} (H : CL e w xf c d rest ct σ μ) : sF μ 154 - 1 ≤ 200 ∧ (sF μ 154).toInt ≤ (200 : Nat) := by
  have bb := CL_b H
  exact ⟨y_m bb.2.2.1.1 bb.2.2.1.2.1 bb.2.2.1.2.2, by have := bb.2.2.1.2.2; rw [tI_le] at this; exact this⟩
/-- what the library's functions that call give -/
theorem bx_z0 {o : Option (Except (Nat × mS) mS)} {N : Nat} {T : ty_xx6_begin} {g : Int32 × mS → Option (Except (Nat × mS) mS)} : bx (bx o (fun z4 => gd (zB ((0 : Int32))) (some (Except.ok ((0 : Int32), z4))))) (fun z25 => (if (z25.1 : Int32) = 0 then xx6_enter_b36 N T z25.2 else g z25)) = o := by
  cases o with
  | none => rfl
  | some u => cases u <;> rfl
theorem tI_1 {a : Int32} (h0 : 0 ≤ a) : ¬ a < 0 := Int32.not_lt.mpr h0
theorem bg_1 {a : Int32} {m : Nat} (h : a < 200) (hm : 200 - a.toInt ≤ (m : Nat)) : 1 ≤ m := by
  rw [tI_lt] at h
  have z : (200 : Int32).toInt = 200 := rfl
  omega
theorem bg_3 {d : Int32} (z : 0 ≤ -1 - d) (h0 : 0 ≤ d) (h1 : d < 120) : False := by lia
theorem bg_4 {c : Int32} : (-1 : Int32) - (-1 - c) = c := by lia
/-- a script's function, or one that resumes -/
theorem enterF_2 {e : EV} (E : EVok e) (EK : KOK e) {M : Nat} {F : Int32} (hM : M + 1 < eN e) (G : HG e M F 200) {m : Nat} (BG : ∀ m', m = m' + 1 → BGst e M F 200 m') {w : WD} {xf : Int32 → List Int32} {c d n a b : Int32} {rest : PL2} {ct : CT} {σ μ : mS} (H : CL e w xf c d rest ct σ μ) (A : AR w σ μ ct.2.2.2.1 n) (n1 : n ≤ 100) (h5 : sI μ 141 ct.2.2.2.1 = 5) (hab : (a, b) ∈ wF w) (ja : sG σ 409 = Int32.toInt64 a) (jb : sJ μ 142 ct.2.2.2.1 = Int32.toInt64 b) (hF : sF σ 396 = F) (hm : (200 - (sF σ 358).toInt) ≤ (m : Nat)) {dx dm : Nat} (hx : 5 * m + 15 ≤ dx) (hd : 4 * m + 16 ≤ dm) : G2 e 1000 (M + 1) (bxx6_enter (eN e) (rc_xx6_begin (eN e) (dx + 1)) σ ct.1 ct.2.1 ct.2.2.1) (if 0 ≤ sI μ 45 b then bd (mm_mayOpen (eN e) μ) (fun z3 => (if (z3.1 : Int32) = 0 then some z3.2 else bd (mm_enterScript (eN e) z3.2 b ct.2.2.2.1 n ct.2.2.2.2.1 ct.2.2.2.2.2) (fun z4 => some z4))) else bd (mm_mayOpen (eN e) μ) (fun z5 => (if (z5.1 : Int32) = 0 then some z5.2 else bd (mm_gather (eN e) z5.2 (ct.2.2.2.1 + 1) n) (fun z6 => lt (md_pi z6 143 ct.2.2.2.1) (fun σ7 => gd (inB b 4100) (bd ((rc_call (eN e) (dm + 1)).2.2.2 σ7 ((-1 : Int32) - sI σ7 45 b) 3 ct.2.2.2.1 ct.2.2.2.2.1 ct.2.2.2.2.2) (fun z8 => some z8))))))) := by
  have hE := E.1
  have RA := (GFR E G hM 200).2
  have GF := (GFR E G hM 200).1
  have n2 := nn_200 H
  have R4 := H.1.1.1.2.2.2.1
  have rr := RF_rng R4 hab
  have W := H.1.1.1.1
  have ll : (Int32.toInt64 a).toInt32 = a := h_ll a
  have b4 : 0 ≤ b ∧ b < 4100 := ⟨Int32.le_trans (by decide) rr.2.2.1, Int32.lt_trans rr.2.2.2 (by decide)⟩
  rcases (R4.2.2.2 a b hab).2.2.2.1 with ⟨s1, s2, s3⟩ | ⟨_, c', d', q1, q2, q3⟩
  · rw [if_pos s2]
    rcases open_2 E H with ⟨ho, o1, o2⟩ | OE1
    · obtain ⟨τ, τm, rx, y1, y2, y3, y4, y5⟩ := enterS_2 E EK G H A n1 h5 hab ja jb s1 ho hF (rc_xx6_begin (eN e) (dx + 1))
      rw [y1, o2]
      show G2 e 1000 (M + 1) (some (.ok τ)) (if (1 : Int32) = 0 then some μ else bd (mm_enterScript (eN e) μ b ct.2.2.2.1 n ct.2.2.2.2.1 ct.2.2.2.2.2) (fun z4 => some z4))
      rw [if_neg (by decide), bd_id, y2]
      exact ⟨rx, τm, rfl, XE_ok (XL_mono y4 (by omega)), UE_ok (XB_of y4 y3 (by omega)), MF_mono y5 (by omega)⟩
    · have ex : bxx6_enter (eN e) (rc_xx6_begin (eN e) (dx + 1)) σ ct.1 ct.2.1 ct.2.2.1 = bx (xx6_mayOpen (eN e) σ) (fun z20 => gd (inB a 4000) (lt ((z20.2.2.1 222 (Int32.toNatClampNeg a))) (fun x21 : Int32 => gd (inB (x21) 5400) (lt ((z20.2.2.1 262 (Int32.toNatClampNeg (x21)))) (fun x22 : Int32 => gd (inB (x21) 5400) ((if ((z20.2.2.1 263 (Int32.toNatClampNeg (x21))) : Int32) = 0 then xx6_enter_b127 (eN e) (rc_xx6_begin (eN e) (dx + 1)) ct.1 ct.2.1 ct.2.2.1 a (x21) (x22) ((0 : Int32)) z20 else bd (xj8_max (eN e) z20 (((z20.1 399) - x22)) ((0 : Int32))) (fun z23 => xx6_enter_b127 (eN e) (rc_xx6_begin (eN e) (dx + 1)) ct.1 ct.2.1 ct.2.2.1 a (x21) (x22) (z23.1) z23.2)))))))) := by
        simp only [bxx6_enter, lt, sG_fold, sI_fold]
        rw [ja, ll, if_pos rr.1, gd_in (by decide) rr.1 rr.2.1, if_pos s1]
      rw [ex]
      exact OE_G2 E RA (OE_bd (OE_bx OE1) (fun z => by rw [if_pos rfl])) hF n2.1 n2.2
  · have pc := W.2.2.2.2.2 c' d' q1
    have na : ¬ 0 ≤ sI σ 222 a := fun z => neg_1 z q2 pc.1
    have nb : ¬ 0 ≤ sI μ 45 b := fun z => by
      rw [q3] at z
      exact bg_3 z pc.2.1 pc.2.2
    rw [if_neg nb]
    have ex : bxx6_enter (eN e) (rc_xx6_begin (eN e) (dx + 1)) σ ct.1 ct.2.1 ct.2.2.1 = bxx6_resume (eN e) (rc_xx6_begin (eN e) dx) σ c' 1 ct.1 ct.2.1 ct.2.2.1 := by
      simp only [bxx6_enter, lt, sG_fold, sI_fold]
      rw [ja, ll, if_pos rr.1, gd_in (by decide) rr.1 rr.2.1, if_neg na, gd_in (by decide) rr.1 rr.2.1, q2, bg_4]
      exact bx_ok
    rw [ex]
    rcases open_2 E H with ⟨ho, o1, o2⟩ | OE1
    · obtain ⟨τm, g1, g2, g3, g4, g5⟩ := AR_ga E H A
      rw [o2]
      show G2 e 1000 (M + 1) _ (if (1 : Int32) = 0 then some μ else bd (mm_gather (eN e) μ (ct.2.2.2.1 + 1) n) (fun z6 => lt (md_pi z6 143 ct.2.2.2.1) (fun σ7 => gd (inB b 4100) (bd ((rc_call (eN e) (dm + 1)).2.2.2 σ7 ((-1 : Int32) - sI σ7 45 b) 3 ct.2.2.2.1 ct.2.2.2.2.1 ct.2.2.2.2.2) (fun z8 => some z8)))))
      rw [if_neg (by decide), g1]
      show G2 e 1000 (M + 1) _ (gd (inB b 4100) (bd ((rc_call (eN e) (dm + 1)).2.2.2 (md_pi τm 143 ct.2.2.2.1) ((-1 : Int32) - sI (md_pi τm 143 ct.2.2.2.1) 45 b) 3 ct.2.2.2.1 ct.2.2.2.2.1 ct.2.2.2.2.2) (fun z8 => some z8)))
      have e45 : sI (md_pi τm 143 ct.2.2.2.1) 45 b = -1 - d' := by rw [mf_I (mf_pi (P := fun k => vM k || k == 143) (mf_mono g5 (fun k hk => by simp only [Bool.or_eq_false_iff] at hk; exact hk.1)) rfl) rfl]; exact q3
      rw [gd_in (by decide) b4.1 b4.2, e45, bg_4, bd_id]
      have top : sF (md_pi τm 143 ct.2.2.2.1) 143 = ct.2.2.2.1 := by simp only [sF_pi, sF_pl, sF_ai, sF_al, sG_pi, sG_pl, sG_ai, sG_al, sI_pi, sI_pl, sI_al, sI_ai1, sI_ai2, sJ_pi, sJ_pl, sJ_ai, sJ_al1, sJ_al2, Nat.reduceEqDiff, if_true, if_false, ne_eq, not_false_eq_true, ite_true, ite_false]
      have m1 := bg_1 ho hm
      obtain ⟨m', rfl⟩ : ∃ i, m = i + 1 := ⟨m - 1, by omega⟩
      exact resume_2 E GF RA (BG m' rfl) g2 rfl A.1 A.2.1 n1 g3 g4 top (.inl q1) ho hF (.inr ⟨rfl, rfl⟩) (by omega) (by omega) (by omega)
    · have ex2 : OE e w xf c d rest ct σ μ (fun z => ((0 : Int32), z)) (bxx6_resume (eN e) (rc_xx6_begin (eN e) dx) σ c' 1 ct.1 ct.2.1 ct.2.2.1) (mm_mayOpen (eN e) μ) := OE_bx OE1
      exact OE_G2 E RA (OE_bd ex2 (fun z => by rw [if_pos rfl])) hF n2.1 n2.2
