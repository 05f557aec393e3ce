/-! LAYER 2: the system's tables: hole, border -/
/-- the border and the holes tell how long a table is -/
def HB (σ : mS) (l h : List Int32) (t : Int32) : Prop := 0 ≤ sI σ 201 t ∧ sI σ 201 t ≤ 44000 ∧ hl1 σ l h (sI σ 201 t) 0 ∧ ¬ lvn σ l (sI σ 201 t + 1)
def hV (k : Nat) : Bool := k == 201 || (hU k || k == 204)
theorem hV_hU {k : Nat} (h : hV k = false) : hU k = false := by
  simp only [hV, Bool.or_eq_false_iff] at h
  exact h.2.1
theorem hV_hR {k : Nat} (h : hV k = false) : hR k = false := by
  have := hV_hU h
  simp only [hU, List.contains_cons, List.contains_nil, Bool.or_eq_false_iff] at this
  simp only [hR, Bool.or_eq_false_iff]
  exact ⟨this.2.2.1, this.2.2.2.1⟩
/-- a change of the border of t alone -/
theorem HS_b {σ : mS} {ts fh : List Int32} {es hs : Int32 → List Int32} {i : Nat} {v : Int32} (H : HS σ ts es hs fh) : HS (md_ai σ 201 i v) ts es hs fh := by
  simp only [HS, HS1, sF_ai, sJ_ai] at H ⊢
  have e : ∀ k, k ≠ 201 → sI (md_ai σ 201 i v) k = sI σ k := fun k hk => by funext m; exact sI_ai1 hk
  simp only [e 202 (by decide), e 203 (by decide), e 204 (by decide), e 205 (by decide), e 206 (by decide), e 208 (by decide), e 212 (by decide)]
  exact H
theorem hole_b25 {N : Nat} (hN : BIG ≤ N) {σ : mS} {ts fh : List Int32} {es ps hs : Int32 → List Int32} {t key : Int32} (ht : t ∈ ts) (hd : dst σ) (F : FX σ ts es ps) (H : HS σ ts es hs fh) (b0 : 0 ≤ sI σ 201 t) (b1 : sI σ 201 t ≤ 44000) (h1 : hl1 σ (es t) (hs t) (sI σ 201 t) key) (h2 : ¬ lvn σ (es t) (sI σ 201 t + 1)) (k1 : 1 ≤ key) (hk : ¬ lvn σ (es t) key) : ∃ τ h' fh', xx3_hole_b25 N t key σ = some τ ∧ HS τ ts es (fU hs t h') fh' ∧ HB τ (es t) h' t ∧ m_fr hV σ τ ∧ (∀ s, 0 ≤ s → s ≠ t → sI τ 201 s = sI σ 201 s) ∧ (∀ x, 0 ≤ x → x ∉ fh → sI τ 204 x = sI σ 204 x) := by
  obtain ⟨m, τ, h', fh', e1, e2, e3, e4, e5, e6⟩ := length_e hN ht hd F H b0 b1 h1 h2
  obtain ⟨τ', fh'', n1, n2, n3⟩ := noHoles_x hN ht ((mf_FX e6 ⟨rfl, rfl, rfl, rfl, rfl, rfl⟩).2.2 hd) (mf_FX2 e6 ⟨rfl, rfl, rfl, rfl, rfl, rfl⟩ ⟨rfl, rfl, rfl, rfl, rfl⟩ F) e4
  rw [fU_fU] at n2
  have t01 := H.1 t ht
  obtain ⟨t0, t1, _⟩ := t01
  have fr := mf_tr e6 n3
  have lv : ∀ k, lvn τ' (es t) k ↔ lvn σ (es t) k := fun k => mf_lvn fr rfl rfl rfl
  have lv2 : ∀ v k, lvn (md_ai τ' 201 t.toNatClampNeg v) (es t) k ↔ lvn σ (es t) k := fun v k => by
    rw [← lv k]
    simp only [lvn, sI_ai1 (show 212 ≠ 201 by decide), sI_ai1 (show 214 ≠ 201 by decide), sJ_ai]
  obtain ⟨m0, m1, m2⟩ := e2
  have ex : ∀ v, (if m ≤ key - 1 then m else key - 1) = v → xx3_hole_b25 N t key σ = some (md_ai τ' 201 t.toNatClampNeg v) := by
    intro v hv
    rw [xx3_hole_b25, e1]
    simp only [bd]
    rw [min_x]
    simp only []
    rw [n1, hv]
    simp (disch := lia) only [gd_in, lt]
  have fin : ∀ v, 0 ≤ v → v ≤ 44000 → (∀ k, 1 ≤ k → k ≤ v → lvn σ (es t) k) → ¬ lvn σ (es t) (v + 1) → HB (md_ai τ' 201 t.toNatClampNeg v) (es t) [] t := by
    intro v v0 v1 v2 v3
    refine ⟨by rw [sI_ai2]; exact v0, by rw [sI_ai2]; exact v1, fun k q0 q1 _ q => ?_, by rw [sI_ai2, lv2]; exact v3⟩
    rw [sI_ai2] at q1
    rw [lv2] at q
    exact absurd (v2 k q0 q1) q
  have frr : ∀ v, m_fr hV σ (md_ai τ' 201 t.toNatClampNeg v) := fun v => mf_ai (mf_mono fr (fun k hk => hV_hU hk)) rfl
  have oth : ∀ v s, 0 ≤ s → s ≠ t → sI (md_ai τ' 201 t.toNatClampNeg v) 201 s = sI σ 201 s := fun v s s0 s1 => by
    rw [sI_ai t0 s0, if_neg (fun q => s1 q.2)]; exact mf_I fr rfl
  by_cases c : m ≤ key - 1
  · refine ⟨_, [], fh'', ex m (if_pos c), HS_b n2, fin m m0 (by lia) (fun k q0 q1 => m1 k q0 q1 (by lia)) m2, frr m, oth m, fun x _ _ => by rw [sI_ai1 (by decide)]; exact mf_I fr rfl⟩
  · refine ⟨_, [], fh'', ex (key - 1) (if_neg c), HS_b n2, fin (key - 1) (by lia) (by lia) (fun k q0 q1 => m1 k q0 (by lia) (by lia)) (by rw [show key - 1 + 1 = key by lia]; exact hk), frr _, oth _, fun x _ _ => by rw [sI_ai1 (by decide)]; exact mf_I fr rfl⟩
theorem hole_p {σ τ : mS} {ts fh : List Int32} {es ps hs : Int32 → List Int32} {t x e r key : Int32} {n' : Nat} (F : FX σ ts es ps) (H : HS σ ts es hs (x :: fh)) (ht : t ∈ ts) (he : e ∈ es t) (e3 : sI σ 212 e = 3) (ek : sJ σ 213 e = Int32.toInt64 key) (k1 : 1 ≤ key) (m2 : hp (sI τ 205) (sI τ 206) (sI τ 204) n' r (hs t ++ [x])) (k204 : ∀ y, 0 ≤ y → sI τ 204 y = if y = x then key else sI σ 204 y) (k202 : ∀ s, 0 ≤ s → sI τ 202 s = if s = t then r else sI σ 202 s) (k203 : ∀ s, 0 ≤ s → sI τ 203 s = if s = t then sI σ 203 t + 1 else sI σ 203 s) (k208 : ∀ y, 0 ≤ y → sI τ 208 y = if y = e then 1 else sI σ 208 y) (k212 : ∀ y, sI τ 212 y = sI σ 212 y) (k213 : ∀ y, sJ τ 213 y = sJ σ 213 y) (out : ∀ y, 0 ≤ y → y ∉ hs t ++ [x] → sI τ 205 y = sI σ 205 y ∧ sI τ 206 y = sI σ 206 y) (f207 : sF τ 207 = sI σ 205 x) : HS τ ts es (fU hs t (hs t ++ [x])) fh := by
  obtain ⟨H1, H2, H3, H4, H5, H6⟩ := H
  obtain ⟨t0, t1, ⟨n, hpn⟩, cnt, nd, rg, ih⟩ := H1 t ht
  obtain ⟨x0, x1⟩ := H4 x List.mem_cons_self
  obtain ⟨xf, ndf⟩ := List.nodup_cons.mp H3
  have xn : ∀ s, s ∈ ts → x ∉ hs s := fun s hs' q => H5 s hs' x q List.mem_cons_self
  have o204 : ∀ y, 0 ≤ y → y ≠ x → sI τ 204 y = sI σ 204 y := fun y y0 c => by rw [k204 y y0, if_neg c]
  have len := nd_len (M := 24000) _ nd (fun x hx => ⟨(rg x hx).1, by have := (rg x hx).2.1; rw [tI_lt] at this; exact this⟩)
  refine ⟨fun s hs' => ?_, ?_, ndf, fun y hy => H4 y (List.mem_cons_of_mem _ hy), ?_, ?_⟩
  · by_cases c : s = t
    · subst c
      rw [fU_s]
      refine ⟨t0, t1, ⟨n', by rw [k202 s t0, if_pos rfl]; exact m2⟩, ?_, ?_, fun y hy => ?_, fun y hy hne => ?_⟩
      · rw [k203 s t0, if_pos rfl, List.length_append, tI_add] <;> simp only [show (1 : Int32).toInt = 1 from rfl, List.length_cons, List.length_nil] <;> omega
      · rw [List.nodup_append]
        exact ⟨nd, by simp, fun a ha b hb q => xn s ht (by simp at hb; rw [← hb, ← q]; exact ha)⟩
      · rcases List.mem_append.mp hy with q | q
        · have w := rg y q
          exact ⟨w.1, w.2.1, by rw [o204 y w.1 (fun z => xn s ht (by rw [← z]; exact q))]; exact w.2.2⟩
        · have : y = x := by simpa using q
          subst this
          exact ⟨x0, x1, by rw [k204 y x0, if_pos rfl]; exact k1⟩
      · rw [k212, k213]
        by_cases d : y = e
        · subst d
          exact ⟨e3, x, by simp, by rw [k204 x x0, if_pos rfl]; exact ek⟩
        · rw [k208 y (F.1 s ht y hy).1, if_neg d] at hne
          obtain ⟨w1, z, w2, w3⟩ := ih y hy hne
          exact ⟨w1, z, by simp [w2], by rw [o204 z (rg z w2).1 (fun q => xn s ht (by rw [← q]; exact w2))]; exact w3⟩
    · rw [fU_o c]
      obtain ⟨s0, s1, ⟨ns, hps⟩, cs, nds, rgs, ihs⟩ := H1 s hs'
      have dj : ∀ y, y ∈ hs s → y ∉ hs t ++ [x] := fun y hy q => by
        rcases List.mem_append.mp q with w | w
        · exact H6 s hs' t ht c y hy w
        · have : y = x := by simpa using w
          subst this; exact xn s hs' hy
      refine ⟨s0, s1, ⟨ns, ?_⟩, ?_, nds, fun y hy => ?_, fun y hy hne => ?_⟩
      · rw [k202 s s0, if_neg c]
        refine hp_congr hps (fun y hy => ?_)
        have w := out y (rgs y hy).1 (dj y hy)
        exact ⟨w.1, w.2, o204 y (rgs y hy).1 (fun q => xn s hs' (by rw [← q]; exact hy))⟩
      · rw [k203 s s0, if_neg c]; exact cs
      · rw [o204 y (rgs y hy).1 (fun q => xn s hs' (by rw [← q]; exact hy))]; exact rgs y hy
      · have yo := F.1 s hs' y hy
        have ye : y ≠ e := fun q => c (by rw [← yo.2.2.1, q]; exact (F.1 t ht e he).2.2.1)
        rw [k208 y yo.1, if_neg ye] at hne
        rw [k212, k213]
        obtain ⟨w1, z, w2, w3⟩ := ihs y hy hne
        exact ⟨w1, z, w2, by rw [o204 z (rgs z w2).1 (fun q => xn s hs' (by rw [← q]; exact w2))]; exact w3⟩
  · rw [f207]
    refine seg_congr H2.2 (fun y hy => ?_)
    refine (out y (H4 y (List.mem_cons_of_mem _ hy)).1 (fun q => ?_)).1
    rcases List.mem_append.mp q with w | w
    · exact H5 t ht y w (List.mem_cons_of_mem _ hy)
    · have : y = x := by simpa using w
      subst this; exact xf hy
  · intro s hs' y hy q
    by_cases c : s = t
    · subst c
      rw [fU_s] at hy
      rcases List.mem_append.mp hy with w | w
      · exact H5 s ht y w (List.mem_cons_of_mem _ q)
      · have : y = x := by simpa using w
        subst this; exact xf q
    · rw [fU_o c] at hy
      exact H5 s hs' y hy (List.mem_cons_of_mem _ q)
  · intro s hs' s' hs'' c y hy q
    by_cases d : s = t
    · subst d
      rw [fU_s] at hy
      rw [fU_o (fun w => c w.symm)] at q
      rcases List.mem_append.mp hy with w | w
      · exact H6 s ht s' hs'' c y w q
      · have : y = x := by simpa using w
        subst this; exact xn s' hs'' q
    · rw [fU_o d] at hy
      by_cases d' : s' = t
      · subst d'
        rw [fU_s] at q
        rcases List.mem_append.mp q with w | w
        · exact H6 s hs' s' ht c y hy w
        · have : y = x := by simpa using w
          subst this; exact xn s hs' hy
      · rw [fU_o d'] at q
        exact H6 s hs' s' hs'' c y hy q
theorem hole_x {N : Nat} (hN : BIG ≤ N) {σ : mS} {ts fh : List Int32} {es ps hs : Int32 → List Int32} {t e key : Int32} (ht : t ∈ ts) (hd : dst σ) (F : FX σ ts es ps) (H : HS σ ts es hs fh) (b0 : 0 ≤ sI σ 201 t) (b1 : sI σ 201 t ≤ 44000) (h1 : hl1 σ (es t) (hs t) (sI σ 201 t) key) (h2 : ¬ lvn σ (es t) (sI σ 201 t + 1)) (k1 : 1 ≤ key) (hk : ¬ lvn σ (es t) key) (he : e ∈ es t) (e3 : sI σ 212 e = 3) (ek : sJ σ 213 e = Int32.toInt64 key) : ∃ τ h' fh', xx3_hole N σ t e key = some τ ∧ HS τ ts es (fU hs t h') fh' ∧ HB τ (es t) h' t ∧ m_fr hV σ τ ∧ (∀ s, 0 ≤ s → s ≠ t → sI τ 201 s = sI σ 201 s) ∧ (∀ x, 0 ≤ x → x ∉ fh → sI τ 204 x = sI σ 204 x) := by
  obtain ⟨t0, t1, ⟨n, hpn⟩, cnt, nd, rg, ih⟩ := H.1 t ht
  have reset := hole_b25 hN ht hd F H b0 b1 h1 h2 k1 hk
  by_cases c : sF σ 207 = -1
  · have ex : xx3_hole N σ t e key = xx3_hole_b25 N t key σ := by
      rw [xx3_hole, if_pos]; exact c
    rw [ex]; exact reset
  by_cases d : (2 : Int32) * sI σ 203 t ≤ sI σ 201 t
  · clear reset
    cases fh with
    | nil => exact absurd H.2.1 c
    | cons x fh =>
      obtain ⟨x0, x1⟩ := H.2.2.2.1 x List.mem_cons_self
      have xh : x ∉ hs t := fun q => H.2.2.2.2.1 t ht x q List.mem_cons_self
      have fx : sF σ 207 = x := H.2.1.1
      obtain ⟨e0, e1, _, _⟩ := F.1 t ht e he
      generalize h9 : md_ai (md_ai (md_ai (md_pi σ 207 (sI σ 205 x)) 204 x.toNatClampNeg key) 205 x.toNatClampNeg (-1)) 206 x.toNatClampNeg (-1) = σ9 at *
      have s205 : ∀ y, 0 ≤ y → sI σ9 205 y = if y = x then -1 else sI σ 205 y := fun y y0 => by
        rw [← h9]; simp (disch := lia) only [sF_pi, sF_pl, sF_ai, sF_al, sG_pi, sG_pl, sG_ai, sG_al, sI_pi, sI_pl, sI_al, sI_ai1, sI_ai2, sJ_pi, sJ_pl, sJ_ai, sJ_al1, sJ_al2, Nat.reduceEqDiff, if_true, if_false, ne_eq, not_false_eq_true, ite_true, ite_false, sI_ai, true_and]
      have s206 : ∀ y, 0 ≤ y → sI σ9 206 y = if y = x then -1 else sI σ 206 y := fun y y0 => by
        rw [← h9]; simp (disch := lia) only [sF_pi, sF_pl, sF_ai, sF_al, sG_pi, sG_pl, sG_ai, sG_al, sI_pi, sI_pl, sI_al, sI_ai1, sI_ai2, sJ_pi, sJ_pl, sJ_ai, sJ_al1, sJ_al2, Nat.reduceEqDiff, if_true, if_false, ne_eq, not_false_eq_true, ite_true, ite_false, sI_ai, true_and]
      have s204 : ∀ y, 0 ≤ y → sI σ9 204 y = if y = x then key else sI σ 204 y := fun y y0 => by
        rw [← h9]; simp (disch := lia) only [sF_pi, sF_pl, sF_ai, sF_al, sG_pi, sG_pl, sG_ai, sG_al, sI_pi, sI_pl, sI_al, sI_ai1, sI_ai2, sJ_pi, sJ_pl, sJ_ai, sJ_al1, sJ_al2, Nat.reduceEqDiff, if_true, if_false, ne_eq, not_false_eq_true, ite_true, ite_false, sI_ai, true_and]
      have g9 : m_fr hV σ σ9 := by rw [← h9]; exact mf_ai (mf_ai (mf_ai (mf_pi mf_rfl rfl) rfl) rfl) rfl
      have i202 : ∀ s, sI σ9 202 s = sI σ 202 s := fun s => by rw [← h9]; simp (disch := lia) only [sF_pi, sF_pl, sF_ai, sF_al, sG_pi, sG_pl, sG_ai, sG_al, sI_pi, sI_pl, sI_al, sI_ai1, sI_ai2, sJ_pi, sJ_pl, sJ_ai, sJ_al1, sJ_al2, Nat.reduceEqDiff, if_true, if_false, ne_eq, not_false_eq_true, ite_true, ite_false]
      have i203 : ∀ s, sI σ9 203 s = sI σ 203 s := fun s => by rw [← h9]; simp (disch := lia) only [sF_pi, sF_pl, sF_ai, sF_al, sG_pi, sG_pl, sG_ai, sG_al, sI_pi, sI_pl, sI_al, sI_ai1, sI_ai2, sJ_pi, sJ_pl, sJ_ai, sJ_al1, sJ_al2, Nat.reduceEqDiff, if_true, if_false, ne_eq, not_false_eq_true, ite_true, ite_false]
      have i208 : ∀ s, sI σ9 208 s = sI σ 208 s := fun s => by rw [← h9]; simp (disch := lia) only [sF_pi, sF_pl, sF_ai, sF_al, sG_pi, sG_pl, sG_ai, sG_al, sI_pi, sI_pl, sI_al, sI_ai1, sI_ai2, sJ_pi, sJ_pl, sJ_ai, sJ_al1, sJ_al2, Nat.reduceEqDiff, if_true, if_false, ne_eq, not_false_eq_true, ite_true, ite_false]
      have i201 : ∀ s, sI σ9 201 s = sI σ 201 s := fun s => by rw [← h9]; simp (disch := lia) only [sF_pi, sF_pl, sF_ai, sF_al, sG_pi, sG_pl, sG_ai, sG_al, sI_pi, sI_pl, sI_al, sI_ai1, sI_ai2, sJ_pi, sJ_pl, sJ_ai, sJ_al1, sJ_al2, Nat.reduceEqDiff, if_true, if_false, ne_eq, not_false_eq_true, ite_true, ite_false]
      have f207 : sF σ9 207 = sI σ 205 x := by rw [← h9]; simp only [sF_pi, sF_pl, sF_ai, sF_al, sG_pi, sG_pl, sG_ai, sG_al, sI_pi, sI_pl, sI_al, sI_ai1, sI_ai2, sJ_pi, sJ_pl, sJ_ai, sJ_al1, sJ_al2, Nat.reduceEqDiff, if_true, if_false, ne_eq, not_false_eq_true, ite_true, ite_false]
      have hpa : hp (sI σ9 205) (sI σ9 206) (sI σ9 204) n (sI σ9 202 t) (hs t) := by
        rw [i202]
        refine hp_congr hpn (fun y hy => ?_)
        have yx : y ≠ x := fun q => xh (by rw [← q]; exact hy)
        rw [s205 y (rg y hy).1, s206 y (rg y hy).1, s204 y (rg y hy).1, if_neg yx, if_neg yx, if_neg yx]
        exact ⟨rfl, rfl, rfl⟩
      have hpb : hp (sI σ9 205) (sI σ9 206) (sI σ9 204) 1 x [x] := .inr ⟨[], [], x0, List.Perm.refl _, ⟨by rw [s205 x x0, if_pos rfl], rfl⟩, ⟨by rw [s206 x x0, if_pos rfl], rfl⟩, fun y hy => absurd hy (by simp)⟩
      obtain ⟨r, τ, n', m1, m2, m3, m4⟩ := merged_x hN hpa hpb (by
        rw [List.nodup_append]
        exact ⟨nd, by simp, fun a ha b hb q => xh (by simp at hb; rw [← hb, ← q]; exact ha)⟩) (fun y hy => by
        rcases List.mem_append.mp hy with q | q
        · exact ⟨(rg y q).1, (rg y q).2.1⟩
        · have : y = x := by simpa using q
          subst this; exact ⟨x0, x1⟩)
      have fr : m_fr hV σ (md_ai (md_ai (md_ai τ 202 t.toNatClampNeg r) 203 t.toNatClampNeg (sI σ 203 t + 1)) 208 e.toNatClampNeg (vp_nar .boolean 1)) := mf_ai (mf_ai (mf_ai (mf_tr g9 (mf_mono m4 (fun k hk => hV_hR hk))) rfl) rfl) rfl
      have j204 : ∀ y, sI (md_ai (md_ai (md_ai τ 202 t.toNatClampNeg r) 203 t.toNatClampNeg (sI σ 203 t + 1)) 208 e.toNatClampNeg (vp_nar .boolean 1)) 204 y = sI σ9 204 y := fun y => by
        rw [sI_ai1 (by decide), sI_ai1 (by decide), sI_ai1 (by decide)]; exact mf_I m4 rfl
      have j201 : ∀ y, sI (md_ai (md_ai (md_ai τ 202 t.toNatClampNeg r) 203 t.toNatClampNeg (sI σ 203 t + 1)) 208 e.toNatClampNeg (vp_nar .boolean 1)) 201 y = sI σ 201 y := fun y => by
        rw [sI_ai1 (by decide), sI_ai1 (by decide), sI_ai1 (by decide), ← i201]; exact mf_I m4 rfl
      have lv : ∀ k, lvn (md_ai (md_ai (md_ai τ 202 t.toNatClampNeg r) 203 t.toNatClampNeg (sI σ 203 t + 1)) 208 e.toNatClampNeg (vp_nar .boolean 1)) (es t) k ↔ lvn σ (es t) k := fun k => mf_lvn fr rfl rfl rfl
      refine ⟨md_ai (md_ai (md_ai τ 202 t.toNatClampNeg r) 203 t.toNatClampNeg (sI σ 203 t + 1)) 208 e.toNatClampNeg (vp_nar .boolean 1), hs t ++ [x], fh, ?_, hole_p (n' := n') (r := r) F H ht he e3 ek k1 ?_ ?_ ?_ ?_ ?_ ?_ ?_ ?_ ?_, ?_, fr, fun s _ _ => j201 s, fun y y0 y1 => by rw [j204, s204 y y0, if_neg (fun q => y1 (by rw [q]; simp))]⟩
      · clear H F h1 h2 rg ih s204 s205 s206 hpa hpb lv fr nd cnt hpn
        have jj : sI τ 203 t = sI σ 203 t := by rw [← i203]; exact mf_I m4 rfl
        simp (disch := lia) only [xx3_hole, lt, gd_in, if_pos, if_neg, sF_fold, sI_fold, fx, h9, i202]
        rw [i202] at m1
        rw [m1]
        simp (disch := lia) only [bd, lt, gd_in, if_pos, if_neg, ↓reduceIte, gd_z0, gd_z1, gd_tt, sF_fold, sG_fold, sI_fold, sJ_fold, sF_pi, sF_pl, sF_ai, sF_al, sG_pi, sG_pl, sG_ai, sG_al, sI_pi, sI_pl, sI_al, sI_ai1, sI_ai2, sJ_pi, sJ_pl, sJ_ai, sJ_al1, sJ_al2, Nat.reduceEqDiff, if_true, if_false, ne_eq, not_false_eq_true, ite_true, ite_false, jj]
      · refine hp_congr m2 (fun y _ => ⟨?_, ?_, ?_⟩)
        · rw [sI_ai1 (by decide), sI_ai1 (by decide), sI_ai1 (by decide)]
        · rw [sI_ai1 (by decide), sI_ai1 (by decide), sI_ai1 (by decide)]
        · rw [sI_ai1 (by decide), sI_ai1 (by decide), sI_ai1 (by decide)]
      · intro y y0
        rw [j204, s204 y y0]
      · intro s s0
        rw [sI_ai1 (by decide), sI_ai1 (by decide), sI_ai t0 s0, mf_I m4 rfl, i202]
        simp only [true_and]
      · intro s s0
        rw [sI_ai1 (by decide), sI_ai t0 s0, sI_ai1 (by decide), mf_I m4 rfl, i203]
        simp only [true_and]
      · intro y y0
        rw [sI_ai e0 y0, sI_ai1 (by decide), sI_ai1 (by decide), mf_I m4 rfl, i208]
        simp only [true_and]
        rfl
      · intro y
        exact mf_I fr rfl
      · intro y
        exact mf_J fr rfl
      · intro y y0 y1
        have w := m3 y y0 y1
        have yx : y ≠ x := fun q => y1 (by rw [q]; simp)
        rw [sI_ai1 (by decide), sI_ai1 (by decide), sI_ai1 (by decide), sI_ai1 (by decide), sI_ai1 (by decide), sI_ai1 (by decide), w.1, w.2, s205 y y0, s206 y y0, if_neg yx, if_neg yx]
        exact ⟨rfl, rfl⟩
      · rw [sF_ai, sF_ai, sF_ai, mf_F m4 rfl, f207]
      · refine ⟨by rw [j201]; exact b0, by rw [j201]; exact b1, ?_, by rw [j201, lv]; exact h2⟩
        rw [j201]
        intro k q0 q1 _ q
        rw [lv] at q
        by_cases w : k = key
        · exact ⟨x, by simp, by rw [j204, s204 x x0, if_pos rfl, w]⟩
        · obtain ⟨z, z1, z2⟩ := h1 k q0 q1 w q
          exact ⟨z, by simp [z1], by rw [j204, s204 z (rg z z1).1, if_neg (fun w' => xh (by rw [← w']; exact z1))]; exact z2⟩
  · have ex : xx3_hole N σ t e key = xx3_hole_b25 N t key σ := by
      clear reset H F h1 h2 rg ih
      simp (disch := lia) only [xx3_hole, gd_in, if_neg, sF_fold, sI_fold, c, d]
    rw [ex]; exact reset
