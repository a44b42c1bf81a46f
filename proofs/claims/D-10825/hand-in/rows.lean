section
section
variable {fP fW fS fU fC fN fQ : Int32} {a1 a2 a3 a4 a5 a6 a7 a8 : Nat → Int32}
/-- a place more is filled with -1 -/
theorem eh_fill {s : Nat → Int32} {i k : Nat} (hk : k = i) (h : ∀ j, j < i → s j = -1) : ∀ j, j < i + 1 → upd s k (-1) j = -1 := by
  intro j hj
  rw [hk]
  by_cases e : j = i
  · rw [e, pk_us]
  · rw [pk_un e]
    exact h j (by omega)
theorem eh_b3 : ∀ k, k < 3 → (nI k).toInt8.toInt32 = nI k := by decide +kernel
/-- the constructor: all zero, the roots -1 -/
theorem eh_init {post : St2 → Prop} {mc ms : Nat} (hc : 8 ≤ mc) (hs : 244 ≤ ms)
    (H : ∀ b7 : Nat → Int32, (∀ j, j < 4 → b7 j = -1) → post (0, 0, 0, 0, 0, 0, 0, (fun _ => 0), (fun _ => 0), (fun _ => 0), (fun _ => 0), (fun _ => 0), (fun _ => 0), b7, (fun _ => 0))) :
    wpX_init post mc ms (0, 0, 0, 0, 0, 0, 0) := by
  unfold wpX_init
  refine ⟨by omega, by omega, by omega, by omega, by omega, by omega, by omega, by omega, by omega, by omega, by omega, by omega, by omega, by omega, by omega, by omega, ?_⟩
  exact pk_loop (fun n i s => wX_init_69 post mc ms 8 244 0 0 0 0 0 0 0 n (nI i) (fun _ => 0) (fun _ => 0) (fun _ => 0) (fun _ => 0) (fun _ => 0) (fun _ => 0) s (fun _ => 0)) (fun i s => ∀ j, j < i → s j = -1) 4 0 (fun _ => 0) (by omega) (fun j hj => absurd hj (by omega))
    (fun n s h => pk_le 4 4 (fun _ => H s h) (fun z => absurd z (by omega)))
    (fun n i s hi h hw => pk_le 4 i (fun z => absurd z (by omega)) (fun _ => ⟨pk_in i 4 hi, nm_e (nm_r (nI_1 i) (hw _ (eh_fill (nI_clamp (by omega)) h)))⟩))
theorem eh_isRoot {post : Int32 → Prop} {r : Nat} (hr : r < 4) (h : post 1) : wpX_isRoot post () (nI r) :=
  pk_lt r 0 (fun z => absurd z (by omega)) (fun _ => pk_le 4 r (fun z => absurd z (by omega)) (fun _ => h))
theorem eh_has0 {post : Int32 → Prop} (h : post 0) : wpX_has post (0, fW, fS, fU, fC, fN, fQ, a1, a2, a3, a4, a5, a6, a7, a8) 0 := by
  unfold wpX_has
  exact br_f (by decide) (br_f (by decide) (br_t (by decide) h))
theorem eh_has1 {post : Int32 → Prop} (h : post 1) : wpX_has post (1, fW, fS, fU, fC, fN, fQ, a1, a2, a3, a4, a5, a6, a7, a8) 0 := by
  unfold wpX_has
  exact br_f (by decide) (br_f (by decide) (br_f (by decide) h))
/-- make, the first object -/
theorem eh_make20 {post : Int32 → St2 → Prop} {n k r : Nat} (hk : k < 3) (hr : r < 4)
    (H : post 0 (1, 0, 0, 1, 0, 0, 0, upd a1 0 0, upd a2 0 0, upd a3 0 (nI k), upd a4 0 (-1), upd a5 0 (-1), a6, upd a7 r 0, a8)) :
    wX_make_20 post (nI k) (nI r) 0 0 0 0 0 0 0 a1 a2 a3 a4 a5 a6 a7 a8 (n + 1) 0 :=
  br_f (by decide) (eh_has0 (br_t rfl (nm_r (e' := 0) (by decide) (nm_r (e' := 1) (by decide) (nm_r (e' := 1) (by decide) (nm_r (e' := 0) (by decide)
    ⟨pk_in 0 20 (by decide), nm_r (e' := upd a1 0 0) rfl ⟨pk_in 0 40 (by decide), nm_r (e' := upd a2 0 0) rfl ⟨pk_in 0 40 (by decide), nm_r (e' := upd a3 0 (nI k)) (congrArg (upd a3 0) (eh_b3 k hk))
    ⟨pk_in 0 40 (by decide), nm_r (e' := upd a4 0 (-1)) rfl ⟨pk_in 0 40 (by decide), nm_r (e' := upd a5 0 (-1)) rfl ⟨pk_in r 4 hr, nm_r (e' := upd a7 r 0) (by rw [nI_clamp (show r < 2 ^ 31 by omega)]; rfl) H⟩⟩⟩⟩⟩⟩))))))
theorem eh_make {post : Int32 → St2 → Prop} {k r : Nat} (hk : k < 3) (hr : r < 4)
    (H : post 0 (1, 0, 0, 1, 0, 0, 0, upd a1 0 0, upd a2 0 0, upd a3 0 (nI k), upd a4 0 (-1), upd a5 0 (-1), a6, upd a7 r 0, a8)) :
    wpX_make post (0, 0, 0, 0, 0, 0, 0, a1, a2, a3, a4, a5, a6, a7, a8) (nI k) (nI r) := by
  unfold wpX_make
  exact pk_lt k 0 (fun z => absurd z (by omega)) (fun _ => pk_lt 2 k (fun z => absurd z (by omega)) (fun _ => eh_isRoot hr (br_f (by decide) ⟨0 + 1, eh_make20 hk hr H⟩)))
theorem eh_rootOf {post : Int32 → Prop} {r : Nat} (hr : r < 4) (h7 : a7 r = 0) (h2 : a2 0 = 0) (h : post 0) : wpX_rootOf post (fP, fW, fS, fU, fC, fN, fQ, a1, a2, a3, a4, a5, a6, a7, a8) (nI r) := by
  unfold wpX_rootOf
  refine eh_isRoot hr (br_f (by decide) ⟨pk_in r 4 hr, ?_⟩)
  rw [nI_clamp (show r < 2 ^ 31 by omega), h7]
  unfold wpX_numberAt
  refine br_t (by decide) ⟨pk_in 0 40 (by decide), ?_⟩
  show post (a2 0)
  rw [h2]
  exact h
theorem eh_kind {post : Int32 → Prop} {k : Nat} (h1 : a1 0 = 0) (h3 : a3 0 = nI k) (h : post (nI k)) : wpX_kind post (1, fW, fS, fU, fC, fN, fQ, a1, a2, a3, a4, a5, a6, a7, a8) 0 := by
  unfold wpX_kind
  refine eh_has1 (br_f (by decide) ⟨pk_in 0 20 (by decide), ?_⟩)
  show vp_in (a1 0) 40 ∧ post (a3 (a1 0).toNatClampNeg)
  rw [h1]
  refine ⟨pk_in 0 40 (by decide), ?_⟩
  show post (a3 0)
  rw [h3]
  exact h
end
end
section
section
variable {fP fW fS fU fC fN fQ : Int32} {a1 a2 a3 a4 a5 a6 a7 a8 : Nat → Int32}
/-- nothing to copy at -1 -/
theorem eh_cneg {post : St2 → Prop} (h : post (fP, fW, fS, fU, fC, fN, fQ, a1, a2, a3, a4, a5, a6, a7, a8)) : wpX_copy post (fP, fW, fS, fU, fC, fN, fQ, a1, a2, a3, a4, a5, a6, a7, a8) (-1) := by
  unfold wpX_copy
  exact br_t (by decide) h
/-- place 0 is copied to place 20 -/
theorem eh_c0 {post : St2 → Prop} (h6 : a6 0 = -1) (H : post (fP, fW, 0, fU, 1, fN, fQ, a1, upd a2 20 (vp_nar .byte (a2 0)), upd a3 20 (vp_nar .byte (a3 0)), upd a4 20 (vp_nar .byte (a4 0)), upd a5 20 (vp_nar .byte (a5 0)), upd a6 0 20, a7, a8)) : wpX_copy post (fP, fW, 0, fU, 0, fN, fQ, a1, a2, a3, a4, a5, a6, a7, a8) 0 := by
  unfold wpX_copy
  refine br_f (by decide) ⟨pk_in 0 40 (by decide), br_t ?_ ?_⟩
  · show a6 0 < 0
    rw [h6]
    decide
  · exact nm_r (e' := 20) (by decide) (nm_r (e' := 1) (by decide) ⟨pk_in 0 40 (by decide), nm_r (e' := upd a6 0 20) rfl
      ⟨pk_in 0 40 (by decide), pk_in 20 40 (by decide), nm_r (e' := upd a2 20 (vp_nar .byte (a2 0))) rfl
      ⟨pk_in 0 40 (by decide), pk_in 20 40 (by decide), nm_r (e' := upd a3 20 (vp_nar .byte (a3 0))) rfl
      ⟨pk_in 0 40 (by decide), pk_in 20 40 (by decide), nm_r (e' := upd a4 20 (vp_nar .byte (a4 0))) rfl
      ⟨pk_in 0 40 (by decide), pk_in 20 40 (by decide), nm_r (e' := upd a5 20 (vp_nar .byte (a5 0))) rfl H⟩⟩⟩⟩⟩)
/-- one copy, one scanned: the pairs are looked at, nothing comes -/
theorem eh_look {post : St2 → Prop} (h4 : a4 20 = -1) (H : post (fP, fW, 0, fU, 1, 1, fQ, a1, a2, a3, a4, a5, a6, a7, a8)) : wpX_lookAtPairs post (fP, fW, 0, fU, 1, 1, fQ, a1, a2, a3, a4, a5, a6, a7, a8) := by
  unfold wpX_lookAtPairs
  have e : wX_lookAtPairs_2 post (0 + 1) 1 fP fW 0 fU 1 1 fQ a1 a2 a3 a4 a5 a6 a7 a8 := br_t (by decide) H
  refine ⟨0 + 1 + 1, br_f (by decide) (nm_r (e' := 20) (by decide) ⟨pk_in 20 40 (by decide), br_c (fun _ => ⟨pk_in 20 40 (by decide), ?_⟩) (fun _ => nm_r (e' := 1) (by decide) e)⟩)⟩
  show wpX_isCopied _ _ (a4 20)
  rw [h4]
  unfold wpX_isCopied
  exact br_t (by decide) (br_t rfl (nm_r (e' := 1) (by decide) e))
theorem eh_78 {post : St2 → Prop} {J4 : Int32 → Int32 → Int32 → Int32 → Int32 → Int32 → Int32 → Int32 → Int32 → (Nat → Int32) → (Nat → Int32) → (Nat → Int32) → (Nat → Int32) → (Nat → Int32) → (Nat → Int32) → (Nat → Int32) → (Nat → Int32) → Prop} {J23 : Int32 → Int32 → Int32 → Int32 → Int32 → Int32 → Int32 → (Nat → Int32) → (Nat → Int32) → (Nat → Int32) → (Nat → Int32) → (Nat → Int32) → (Nat → Int32) → (Nat → Int32) → (Nat → Int32) → Prop} {x1 x2 : Int32} (h5 : a5 20 = -1) (hJ : J23 fP fW fS fU fC fN fQ a1 a2 a3 a4 a5 a6 a7 a8) : wX_spread_78 post J4 J23 x1 x2 20 fP fW fS fU fC fN fQ a1 a2 a3 a4 a5 a6 a7 a8 := by
  unfold wX_spread_78
  refine ⟨pk_in 20 40 (by decide), br_c (fun _ => hJ) (fun _ => ⟨pk_in 20 40 (by decide), ?_⟩)⟩
  show wpX_copy _ _ (a5 20)
  rw [h5]
  exact eh_cneg hJ
theorem eh_spread {post : St2 → Prop} (h4 : a4 20 = -1) (h5 : a5 20 = -1) (H : post (fP, fW, 0, fU, 1, 1, fQ, a1, a2, a3, a4, a5, a6, a7, a8)) : wpX_spread post (fP, fW, 0, fU, 1, 0, fQ, a1, a2, a3, a4, a5, a6, a7, a8) := by
  unfold wpX_spread
  have e4 : wX_spread_4 post (0 + 1) 1 1 fP fW 0 fU 1 1 fQ a1 a2 a3 a4 a5 a6 a7 a8 := br_f (by decide) (br_t rfl H)
  have e23 : wX_spread_23 post (wX_spread_4 post (0 + 1)) 1 0 (0 + 1) fP fW 0 fU 1 1 fQ a1 a2 a3 a4 a5 a6 a7 a8 := br_t (by decide) (eh_look h4 (nm_r (e' := 1) (by decide) e4))
  refine ⟨0 + 1 + 1, br_f (by decide) (br_f (by decide) ⟨0 + 1 + 1, br_f (by decide) (nm_r (e' := 20) (by decide) (nm_r (e' := 1) (by decide) ⟨pk_in 20 40 (by decide), br_c (fun _ => ⟨pk_in 20 40 (by decide), ?_⟩) (fun _ => eh_78 h5 e23)⟩))⟩)⟩
  show wpX_copy _ _ (a4 20)
  rw [h4]
  exact eh_cneg (eh_78 h5 e23)
theorem eh_56 {post : St2 → Prop} (h4 : a4 20 = -1) (h5 : a5 20 = -1) (H : post (fP, fW, 0, fU, 1, 1, 0, a1, a2, a3, a4, a5, a6, a7, a8)) : ∃ n, wX_copyLiving_56 post n 0 fP fW 0 fU 1 0 0 a1 a2 a3 a4 a5 a6 a7 a8 :=
  ⟨0 + 1, br_t (by decide) (eh_spread h4 h5 H)⟩
theorem eh_33n {post : St2 → Prop} {n : Nat} (i : Nat) (hi : i < 4) (h7 : a7 i = -1) (hw : wX_copyLiving_33 post n (nI (i + 1)) fP fW fS fU fC fN fQ a1 a2 a3 a4 a5 a6 a7 a8) : wX_copyLiving_33 post (n + 1) (nI i) fP fW fS fU fC fN fQ a1 a2 a3 a4 a5 a6 a7 a8 := by
  refine pk_le 4 i (fun z => absurd z (by omega)) (fun _ => ⟨pk_in i 4 hi, ?_⟩)
  rw [nI_clamp (show i < 2 ^ 31 by omega), h7]
  exact eh_cneg (nm_r (nI_1 i) hw)
theorem eh_33c {post : St2 → Prop} {n : Nat} (i : Nat) (hi : i < 4) (h7 : a7 i = 0) (h6 : a6 0 = -1) (hw : wX_copyLiving_33 post n (nI (i + 1)) fP fW 0 fU 1 fN fQ a1 (upd a2 20 (vp_nar .byte (a2 0))) (upd a3 20 (vp_nar .byte (a3 0))) (upd a4 20 (vp_nar .byte (a4 0))) (upd a5 20 (vp_nar .byte (a5 0))) (upd a6 0 20) a7 a8) : wX_copyLiving_33 post (n + 1) (nI i) fP fW 0 fU 0 fN fQ a1 a2 a3 a4 a5 a6 a7 a8 := by
  refine pk_le 4 i (fun z => absurd z (by omega)) (fun _ => ⟨pk_in i 4 hi, ?_⟩)
  rw [nI_clamp (show i < 2 ^ 31 by omega), h7]
  exact eh_c0 h6 (nm_r (nI_1 i) hw)
/-- the roots: one of them is place 0, the others -1 -/
theorem eh_33 {post : St2 → Prop} {r : Nat} (hr : r < 4) (h0 : a7 r = 0) (h7 : ∀ j, j < 4 → j ≠ r → a7 j = -1) (h6 : a6 0 = -1)
    (H : ∃ n, wX_copyLiving_56 post n 0 fP fW 0 fU 1 fN fQ a1 (upd a2 20 (vp_nar .byte (a2 0))) (upd a3 20 (vp_nar .byte (a3 0))) (upd a4 20 (vp_nar .byte (a4 0))) (upd a5 20 (vp_nar .byte (a5 0))) (upd a6 0 20) a7 a8) : ∃ n, wX_copyLiving_33 post n 0 fP fW 0 fU 0 fN fQ a1 a2 a3 a4 a5 a6 a7 a8 := by
  have e : wX_copyLiving_33 post (0 + 1) (nI 4) fP fW 0 fU 1 fN fQ a1 (upd a2 20 (vp_nar .byte (a2 0))) (upd a3 20 (vp_nar .byte (a3 0))) (upd a4 20 (vp_nar .byte (a4 0))) (upd a5 20 (vp_nar .byte (a5 0))) (upd a6 0 20) a7 a8 := pk_le 4 4 (fun _ => H) (fun z => absurd z (by omega))
  have hc : r = 0 ∨ r = 1 ∨ r = 2 ∨ r = 3 := by omega
  rcases hc with rfl | rfl | rfl | rfl
  · exact ⟨0 + 1 + 1 + 1 + 1 + 1, eh_33c 0 (by decide) h0 h6 (eh_33n 1 (by decide) (h7 1 (by decide) (by decide)) (eh_33n 2 (by decide) (h7 2 (by decide) (by decide)) (eh_33n 3 (by decide) (h7 3 (by decide) (by decide)) e)))⟩
  · exact ⟨0 + 1 + 1 + 1 + 1 + 1, eh_33n 0 (by decide) (h7 0 (by decide) (by decide)) (eh_33c 1 (by decide) h0 h6 (eh_33n 2 (by decide) (h7 2 (by decide) (by decide)) (eh_33n 3 (by decide) (h7 3 (by decide) (by decide)) e)))⟩
  · exact ⟨0 + 1 + 1 + 1 + 1 + 1, eh_33n 0 (by decide) (h7 0 (by decide) (by decide)) (eh_33n 1 (by decide) (h7 1 (by decide) (by decide)) (eh_33c 2 (by decide) h0 h6 (eh_33n 3 (by decide) (h7 3 (by decide) (by decide)) e)))⟩
  · exact ⟨0 + 1 + 1 + 1 + 1 + 1, eh_33n 0 (by decide) (h7 0 (by decide) (by decide)) (eh_33n 1 (by decide) (h7 1 (by decide) (by decide)) (eh_33n 2 (by decide) (h7 2 (by decide) (by decide)) (eh_33c 3 (by decide) h0 h6 e)))⟩
theorem eh_cl {post : St2 → Prop} (H : ∀ b6 : Nat → Int32, (∀ j, j < 40 → b6 j = -1) → ∃ n, wX_copyLiving_33 post n 0 fP fW fS fU 0 0 fQ a1 a2 a3 a4 a5 b6 a7 a8) : wpX_copyLiving post (fP, fW, fS, fU, fC, fN, fQ, a1, a2, a3, a4, a5, a6, a7, a8) := by
  unfold wpX_copyLiving
  exact pk_loop (fun n i s => wX_copyLiving_2 post fP fW fS fU fC fN fQ n (nI i) a1 a2 a3 a4 a5 s a7 a8) (fun i s => ∀ j, j < i → s j = -1) 40 0 a6 (by omega) (fun j hj => absurd hj (by omega))
    (fun n s h => pk_le 40 40 (fun _ => H s h) (fun z => absurd z (by omega)))
    (fun n i s hi h hw => pk_le 40 i (fun z => absurd z (by omega)) (fun _ => ⟨pk_in i 40 hi, nm_e (nm_r (nI_1 i) (hw _ (eh_fill (nI_clamp (by omega)) h)))⟩))
theorem eh_8 {post : Int32 → St2 → Prop} (h2 : a2 20 = 0) (H : post 1 (fP, fW, 0, fU, 1, fN, fQ, a1, a2, a3, a4, a5, a6, a7, a8)) : ∃ n, wX_living_8 post fP fW 0 fU 1 fN fQ a1 a2 a3 a4 a5 a6 a7 a8 n 0 0 := by
  refine ⟨0 + 1 + 1, br_f (by decide) ⟨pk_in 20 40 (by decide), nm_r (e' := 1) ?_ (nm_r (e' := 1) (by decide) (br_t (by decide) H))⟩⟩
  show (0 : Int32) ||| ((1 : Int32) <<< ((a2 20) &&& 31)) = 1
  rw [h2]
  decide
theorem eh_living {post : Int32 → St2 → Prop} {r : Nat} (hr : r < 4) (h0 : a7 r = 0) (h7 : ∀ j, j < 4 → j ≠ r → a7 j = -1) (h2 : a2 0 = 0) (h4 : a4 0 = -1) (h5 : a5 0 = -1) (H : ∀ u, post 1 u) :
    wpX_living post (fP, fW, 0, fU, fC, fN, 0, a1, a2, a3, a4, a5, a6, a7, a8) := by
  unfold wpX_living
  refine eh_cl (fun b6 h6 => eh_33 hr h0 h7 (h6 0 (by decide)) (eh_56 ?_ ?_ (eh_8 ?_ (H _))))
  · rw [pk_us, h4]
    decide
  · rw [pk_us, h5]
    decide
  · rw [pk_us, h2]
    decide
theorem eh_alive {post : Int32 → St2 → Prop} {r : Nat} (hr : r < 4) (h0 : a7 r = 0) (h7 : ∀ j, j < 4 → j ≠ r → a7 j = -1) (h2 : a2 0 = 0) (h4 : a4 0 = -1) (h5 : a5 0 = -1) (H : ∀ u, post 1 u) :
    wpX_alive post (fP, fW, 0, fU, fC, fN, 0, a1, a2, a3, a4, a5, a6, a7, a8) := by
  unfold wpX_alive
  refine eh_living hr h0 h7 h2 h4 h5 (fun u => ?_)
  obtain ⟨p1, p2, p3, p4, p5, p6, p7, p8, p9, p10, p11, p12, p13, p14, p15⟩ := u
  exact H _
end
end
section
section
variable {fP fW fS fU fC fN fQ : Int32} {a1 a2 a3 a4 a5 a6 a7 a8 : Nat → Int32}
theorem eh_57 {post : Int32 → St0 → Prop} {mc ms kc ks : Nat} (H : post 1 ()) : wL_lawOf_57 post mc ms (-1) kc ks 0 fW fS fU fC fN fQ a1 a2 a3 a4 a5 a6 a7 a8 := by
  unfold wL_lawOf_57
  exact br_t rfl (br_t rfl H)
theorem eh_law {post : Int32 → St0 → Prop} (H : post 1 ()) (p0 p1 : Int32) : wpL_lawOf post 58 912 () p0 p1 := by
  obtain ⟨i, hi, ei⟩ := pk_andE p0 (m := 2147483647) 31 (by decide)
  obtain ⟨j, hj, ej⟩ := pk_andE p1 (m := 2147483647) 31 (by decide)
  have fi : nI i - nI i / 5 * 5 = nI (i % 5) := pk_rem (d := 5) hi (by decide) (by decide)
  have fj : nI j - nI j / 6 * 6 = nI (j % 6) := pk_rem (d := 6) hj (by decide) (by decide)
  have gi : i % 5 < 5 := Nat.mod_lt _ (by decide)
  have gj : j % 6 < 6 := Nat.mod_lt _ (by decide)
  unfold wpL_lawOf
  rw [ei, ej, fi, fj]
  generalize i % 5 = k at gi
  generalize j % 6 = r at gj
  refine ⟨by decide, by decide, 57, 897, by decide, by decide, eh_init (by decide) (by decide) (fun a7 h7 => ?_)⟩
  have ck : k = 0 ∨ k = 4 ∨ ∃ q, q < 3 ∧ k = q + 1 := by
    rcases Nat.eq_zero_or_pos k with z | z
    · exact Or.inl z
    · by_cases z4 : k = 4
      · exact Or.inr (Or.inl z4)
      · exact Or.inr (Or.inr ⟨k - 1, by omega, by omega⟩)
  have cr : r = 0 ∨ r = 5 ∨ ∃ q, q < 4 ∧ r = q + 1 := by
    rcases Nat.eq_zero_or_pos r with z | z
    · exact Or.inl z
    · by_cases z5 : r = 5
      · exact Or.inr (Or.inl z5)
      · exact Or.inr (Or.inr ⟨r - 1, by omega, by omega⟩)
  rcases ck with rfl | rfl | ⟨k, hk, rfl⟩
  · refine ⟨by decide, nm_r (e' := -1) (by decide) ⟨by decide, nm_e ?_⟩⟩
    unfold wpX_make
    exact br_t (by decide) (br_t (by decide) (eh_57 H))
  · refine ⟨by decide, nm_r (e' := 3) (by decide) ⟨by decide, nm_e ?_⟩⟩
    unfold wpX_make
    exact br_f (by decide) (br_t (by decide) (br_f (by decide) (br_t (by decide) (eh_57 H))))
  · rcases cr with rfl | rfl | ⟨r, hr, rfl⟩
    · refine ⟨by decide, nm_r (nI_pred k) ⟨by decide, nm_r (e' := -1) (by decide) ?_⟩⟩
      unfold wpX_make
      exact pk_lt k 0 (fun z => absurd z (by omega)) (fun _ => pk_lt 2 k (fun z => absurd z (by omega)) (fun _ => br_t (by decide) (br_t rfl
        (pk_lt k 0 (fun z => absurd z (by omega)) (fun _ => pk_lt 2 k (fun z => absurd z (by omega)) (fun _ => br_t (by decide) (eh_57 H)))))))
    · refine ⟨by decide, nm_r (nI_pred k) ⟨by decide, nm_r (e' := 4) (by decide) ?_⟩⟩
      unfold wpX_make
      exact pk_lt k 0 (fun z => absurd z (by omega)) (fun _ => pk_lt 2 k (fun z => absurd z (by omega)) (fun _ => br_f (by decide) (br_t (by decide) (br_t rfl
        (pk_lt k 0 (fun z => absurd z (by omega)) (fun _ => pk_lt 2 k (fun z => absurd z (by omega)) (fun _ => br_f (by decide) (br_f (by decide) (eh_57 H)))))))))
    · refine ⟨by decide, nm_r (nI_pred k) ⟨by decide, nm_r (nI_pred r) ?_⟩⟩
      have g7 : ∀ m, m < 4 → m ≠ r → upd a7 r 0 m = -1 := fun m hm e => by
        rw [pk_un e]
        exact h7 m hm
      refine eh_make hk hr ?_
      exact pk_lt k 0 (fun z => absurd z (by omega)) (fun _ => pk_lt 2 k (fun z => absurd z (by omega)) (fun _ => pk_lt r 0 (fun z => absurd z (by omega)) (fun _ => pk_le r 3
        (fun _ => br_t rfl (eh_rootOf hr pk_us pk_us (br_t rfl (eh_kind pk_us pk_us (br_t rfl (eh_alive hr pk_us g7 pk_us pk_us pk_us (fun _ => br_t rfl H)))))))
        (fun z => absurd z (by omega)))))
theorem eh_cell {post : Int32 → Prop} {L : Nat} {xs : Nat → Int32} (hL : L ≤ 2) (k : Nat) (hk : k < 2) (H : ∀ v, post v) : wpL_cellAt post L xs () (nI k) := by
  unfold wpL_cellAt
  exact pk_le L k (fun _ => H 0) (fun z => ⟨pk_in k L z, H _⟩)
end
theorem i_vc (xs : Nat → Int32) (L : Nat) (hL : L ≤ 2) : wpL_law (fun r => r = 1) L xs := by
  unfold wpL_law
  exact eh_cell hL 0 (by decide) (fun a => eh_cell hL 1 (by decide) (fun b => ⟨58, 912, by decide, by decide, eh_law rfl a b⟩))
end
