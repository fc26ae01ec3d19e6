/-! the model's constructor (printed by gen/ctor.py) -/
theorem mono_st {x t : Nat} {D D' d : Prop} (h : D → D' ∨ d) (z : (1412 < x ∧ x < t + 1) ∨ (x = 1412 ∧ D)) : (((1412 < x ∧ x < t) ∨ (x = 1412 ∧ D')) ∨ x = t) ∨ (x = 1412 ∧ d) := by
  rcases z with z | z
  · rcases (show x < t ∨ x = t by omega) with y | y
    · exact .inl (.inl (.inl ⟨z.1, y⟩))
    · exact .inl (.inr y)
  · rcases h z.2 with y | y
    · exact .inl (.inl (.inr ⟨z.1, y⟩))
    · exact .inr ⟨z.1, y⟩
def Em (h0 h : mj_H) : Prop := (∀ c, c < 1412 → h.1 c = h0.1 c ∧ h.2.1 c = h0.2.1 c ∧ h.2.2.1 c = h0.2.2.1 c ∧ h.2.2.2.1 c = h0.2.2.2.1 c) ∧ hJ h 1412 54 = 0 ∧ hJ h 1412 55 = 0
theorem Em.new {h0 h : mj_H} (e : Em h0 h) {t : Nat} (ht : hT h = t) (h2 : 1412 < t) (kd n : Nat) : Em h0 (hNew h kd n) := by
  obtain ⟨e1, e2, e3⟩ := e
  refine ⟨fun c hc => ?_, (hNew_J h kd n (by omega) 54).trans e2, (hNew_J h kd n (by omega) 55).trans e3⟩
  obtain ⟨a, b, d, f⟩ := e1 c hc
  refine ⟨?_, ?_, ?_, (hNew_kd h kd n (by omega)).trans f⟩
  · funext k
    exact (hNew_I h kd n (by omega) k).trans (congrFun a k)
  · funext k
    exact (hNew_J h kd n (by omega) k).trans (congrFun b k)
  · funext k
    exact (hNew_R h kd n (by omega) k).trans (congrFun d k)
theorem Em.sR {h0 h : mj_H} (e : Em h0 h) (k : Nat) (v : Option Nat) : Em h0 (sR h 1412 k v) := by
  obtain ⟨e1, e2, e3⟩ := e
  refine ⟨fun c hc => ?_, e2, e3⟩
  obtain ⟨a, b, d, f⟩ := e1 c hc
  refine ⟨a, b, ?_, f⟩
  funext y
  show (if c = 1412 ∧ y = k then v else h.2.2.1 c y) = _
  rw [if_neg (by omega)]
  exact congrFun d y
theorem Em.sJ {h0 h : mj_H} (e : Em h0 h) {k : Nat} (hk : k ≠ 54 ∧ k ≠ 55) (v : Int64) : Em h0 (sJ h 1412 k v) := by
  obtain ⟨e1, e2, e3⟩ := e
  refine ⟨fun c hc => ?_, ?_, ?_⟩
  · obtain ⟨a, b, d, f⟩ := e1 c hc
    refine ⟨a, ?_, d, f⟩
    funext y
    show (if c = 1412 ∧ y = k then v else h.2.1 c y) = _
    rw [if_neg (by omega)]
    exact congrFun b y
  · show (if 1412 = 1412 ∧ 54 = k then v else h.2.1 1412 54) = _
    rw [if_neg (by omega)]
    exact e2
  · show (if 1412 = 1412 ∧ 55 = k then v else h.2.1 1412 55) = _
    rw [if_neg (by omega)]
    exact e3
theorem lyr_1412 : ∀ {y q : Nat}, lyR2 1412 y = some q → y = 4 ∨ y = 5 ∨ y = 6 ∨ y = 8 ∨ y = 9 ∨ y = 10 ∨ y = 11 ∨ y = 13 ∨ y = 16 ∨ y = 18 ∨ y = 25 ∨ y = 28 ∨ y = 29 ∨ y = 30 ∨ y = 32 ∨ y = 33 ∨ y = 36 ∨ y = 37 ∨ y = 38 ∨ y = 39 ∨ y = 41 ∨ y = 42 ∨ y = 43 ∨ y = 44 ∨ y = 45 ∨ y = 46 ∨ y = 47 ∨ y = 49 := by
  intro y q e
  have h1 := lkp_mem (show lkp [(4, 1413), (5, 1414), (6, 1415), (8, 1416), (9, 1417), (10, 1418), (11, 1419), (13, 1420), (16, 1421), (18, 1422), (25, 1423), (28, 1424), (29, 1425), (30, 1426), (32, 1427), (33, 1428), (36, 1429), (37, 1430), (38, 1431), (39, 1432), (41, 1433), (42, 1434), (43, 1435), (44, 1436), (45, 1437), (46, 1438), (47, 1439), (49, 1440)] y = some q from e)
  simp only [List.mem_cons, Prod.mk.injEq, List.not_mem_nil, or_false] at h1
  omega
/-- FormHouseModel.<init>()V; cuts at [4, 11, 18, 26, 34, 42, 51, 60, 68, 77, 86, 94, 102, 107, 112, 121, 129, 137, 145, 154, 163, 172, 181, 190, 198, 207, 216, 225, 233, 242, 251, 260, 269] -/
def cl_190_5 : List mj_E := (255, false, .newarray .int, 2, 1, 0, 0, 0, 0) ::
  (257, false, .putfield 110, 3, 17, 47, 2, 0, 0) ::
  (260, true, .aload_n 0, 1, 0, 0, 0, 0, 0) ::
  (261, false, .sipush 11000, 3, 0, 0, 0, jI 11000, 0) ::
  (264, false, .newarray .int, 2, 1, 0, 0, 0, 0) ::
  (266, false, .putfield 113, 3, 17, 49, 2, 0, 0) ::
  (269, true, .aload_n 0, 1, 0, 0, 0, 0, 0) ::
  (270, false, .ldc2_w 7, 3, 0, 0, 0, 0, jL (-4)) ::
  (273, false, .invokevirtual 116, 3, 191, 1, 17, 0, 0) ::
  (276, false, .return_, 1, 0, 0, 0, 0, 0) ::
  []
def cl_190_4 : List mj_E := (202, false, .newarray .int, 2, 1, 0, 0, 0, 0) ::
  (204, false, .putfield 92, 3, 17, 41, 2, 0, 0) ::
  (207, true, .aload_n 0, 1, 0, 0, 0, 0, 0) ::
  (208, false, .sipush 256, 3, 0, 0, 0, jI 256, 0) ::
  (211, false, .newarray .int, 2, 1, 0, 0, 0, 0) ::
  (213, false, .putfield 95, 3, 17, 42, 2, 0, 0) ::
  (216, true, .aload_n 0, 1, 0, 0, 0, 0, 0) ::
  (217, false, .sipush 512, 3, 0, 0, 0, jI 512, 0) ::
  (220, false, .newarray .int, 2, 1, 0, 0, 0, 0) ::
  (222, false, .putfield 98, 3, 17, 43, 2, 0, 0) ::
  (225, true, .aload_n 0, 1, 0, 0, 0, 0, 0) ::
  (226, false, .ldc 88, 2, 0, 0, 0, jI 262144, 0) ::
  (228, false, .newarray .int, 2, 1, 0, 0, 0, 0) ::
  (230, false, .putfield 101, 3, 17, 44, 2, 0, 0) ::
  (233, true, .aload_n 0, 1, 0, 0, 0, 0, 0) ::
  (234, false, .sipush 256, 3, 0, 0, 0, jI 256, 0) ::
  (237, false, .newarray .long, 2, 2, 0, 0, 0, 0) ::
  (239, false, .putfield 104, 3, 17, 45, 2, 0, 0) ::
  (242, true, .aload_n 0, 1, 0, 0, 0, 0, 0) ::
  (243, false, .sipush 256, 3, 0, 0, 0, jI 256, 0) ::
  (246, false, .newarray .long, 2, 2, 0, 0, 0, 0) ::
  (248, false, .putfield 107, 3, 17, 46, 2, 0, 0) ::
  (251, true, .aload_n 0, 1, 0, 0, 0, 0, 0) ::
  (252, false, .sipush 16500, 3, 0, 0, 0, jI 16500, 0) ::
  cl_190_5
def cl_190_3 : List mj_E := (149, false, .newarray .int, 2, 1, 0, 0, 0, 0) ::
  (151, false, .putfield 73, 3, 17, 32, 2, 0, 0) ::
  (154, true, .aload_n 0, 1, 0, 0, 0, 0, 0) ::
  (155, false, .sipush 4096, 3, 0, 0, 0, jI 4096, 0) ::
  (158, false, .newarray .boolean, 2, 4, 0, 0, 0, 0) ::
  (160, false, .putfield 76, 3, 17, 33, 2, 0, 0) ::
  (163, true, .aload_n 0, 1, 0, 0, 0, 0, 0) ::
  (164, false, .sipush 256, 3, 0, 0, 0, jI 256, 0) ::
  (167, false, .newarray .int, 2, 1, 0, 0, 0, 0) ::
  (169, false, .putfield 79, 3, 17, 36, 2, 0, 0) ::
  (172, true, .aload_n 0, 1, 0, 0, 0, 0, 0) ::
  (173, false, .sipush 256, 3, 0, 0, 0, jI 256, 0) ::
  (176, false, .newarray .int, 2, 1, 0, 0, 0, 0) ::
  (178, false, .putfield 82, 3, 17, 37, 2, 0, 0) ::
  (181, true, .aload_n 0, 1, 0, 0, 0, 0, 0) ::
  (182, false, .sipush 512, 3, 0, 0, 0, jI 512, 0) ::
  (185, false, .newarray .int, 2, 1, 0, 0, 0, 0) ::
  (187, false, .putfield 85, 3, 17, 38, 2, 0, 0) ::
  (190, true, .aload_n 0, 1, 0, 0, 0, 0, 0) ::
  (191, false, .ldc 88, 2, 0, 0, 0, jI 262144, 0) ::
  (193, false, .newarray .int, 2, 1, 0, 0, 0, 0) ::
  (195, false, .putfield 89, 3, 17, 39, 2, 0, 0) ::
  (198, true, .aload_n 0, 1, 0, 0, 0, 0, 0) ::
  (199, false, .sipush 256, 3, 0, 0, 0, jI 256, 0) ::
  cl_190_4
def cl_190_2 : List mj_E := (102, true, .aload_n 0, 1, 0, 0, 0, 0, 0) ::
  (103, false, .lconst 1, 1, 0, 0, 0, 0, jL 1) ::
  (104, false, .putfield 55, 3, 17, 20, 1, 0, 0) ::
  (107, true, .aload_n 0, 1, 0, 0, 0, 0, 0) ::
  (108, false, .lconst 1, 1, 0, 0, 0, 0, jL 1) ::
  (109, false, .putfield 58, 3, 17, 22, 1, 0, 0) ::
  (112, true, .aload_n 0, 1, 0, 0, 0, 0, 0) ::
  (113, false, .sipush 200, 3, 0, 0, 0, jI 200, 0) ::
  (116, false, .newarray .long, 2, 2, 0, 0, 0, 0) ::
  (118, false, .putfield 61, 3, 17, 25, 2, 0, 0) ::
  (121, true, .aload_n 0, 1, 0, 0, 0, 0, 0) ::
  (122, false, .ldc 20, 2, 0, 0, 0, jI 40960, 0) ::
  (124, false, .newarray .int, 2, 1, 0, 0, 0, 0) ::
  (126, false, .putfield 64, 3, 17, 28, 2, 0, 0) ::
  (129, true, .aload_n 0, 1, 0, 0, 0, 0, 0) ::
  (130, false, .ldc 20, 2, 0, 0, 0, jI 40960, 0) ::
  (132, false, .newarray .int, 2, 1, 0, 0, 0, 0) ::
  (134, false, .putfield 67, 3, 17, 29, 2, 0, 0) ::
  (137, true, .aload_n 0, 1, 0, 0, 0, 0, 0) ::
  (138, false, .ldc 20, 2, 0, 0, 0, jI 40960, 0) ::
  (140, false, .newarray .int, 2, 1, 0, 0, 0, 0) ::
  (142, false, .putfield 70, 3, 17, 30, 2, 0, 0) ::
  (145, true, .aload_n 0, 1, 0, 0, 0, 0, 0) ::
  (146, false, .sipush 4096, 3, 0, 0, 0, jI 4096, 0) ::
  cl_190_3
def cl_190_1 : List mj_E := (51, true, .aload_n 0, 1, 0, 0, 0, 0, 0) ::
  (52, false, .sipush 4096, 3, 0, 0, 0, jI 4096, 0) ::
  (55, false, .newarray .int, 2, 1, 0, 0, 0, 0) ::
  (57, false, .putfield 34, 3, 17, 9, 2, 0, 0) ::
  (60, true, .aload_n 0, 1, 0, 0, 0, 0, 0) ::
  (61, false, .ldc 37, 2, 0, 0, 0, jI 32768, 0) ::
  (63, false, .newarray .int, 2, 1, 0, 0, 0, 0) ::
  (65, false, .putfield 38, 3, 17, 10, 2, 0, 0) ::
  (68, true, .aload_n 0, 1, 0, 0, 0, 0, 0) ::
  (69, false, .sipush 4096, 3, 0, 0, 0, jI 4096, 0) ::
  (72, false, .newarray .boolean, 2, 4, 0, 0, 0, 0) ::
  (74, false, .putfield 41, 3, 17, 11, 2, 0, 0) ::
  (77, true, .aload_n 0, 1, 0, 0, 0, 0, 0) ::
  (78, false, .sipush 4096, 3, 0, 0, 0, jI 4096, 0) ::
  (81, false, .newarray .int, 2, 1, 0, 0, 0, 0) ::
  (83, false, .putfield 45, 3, 17, 13, 2, 0, 0) ::
  (86, true, .aload_n 0, 1, 0, 0, 0, 0, 0) ::
  (87, false, .bipush 8, 2, 0, 0, 0, jI 8, 0) ::
  (89, false, .newarray .int, 2, 1, 0, 0, 0, 0) ::
  (91, false, .putfield 48, 3, 17, 16, 2, 0, 0) ::
  (94, true, .aload_n 0, 1, 0, 0, 0, 0, 0) ::
  (95, false, .bipush 8, 2, 0, 0, 0, jI 8, 0) ::
  (97, false, .newarray .long, 2, 2, 0, 0, 0, 0) ::
  (99, false, .putfield 51, 3, 17, 18, 2, 0, 0) ::
  cl_190_2
def cl_190_0 : List mj_E := (0, false, .aload_n 0, 1, 0, 0, 0, 0, 0) ::
  (1, false, .invokespecial 1, 3, 0, 0, 1, 0, 0) ::
  (4, true, .aload_n 0, 1, 0, 0, 0, 0, 0) ::
  (5, false, .ldc2_w 7, 3, 0, 0, 0, 0, jL (-4)) ::
  (8, false, .putfield 9, 3, 17, 1, 1, 0, 0) ::
  (11, true, .aload_n 0, 1, 0, 0, 0, 0, 0) ::
  (12, false, .ldc2_w 15, 3, 0, 0, 0, 0, jL (-1)) ::
  (15, false, .putfield 17, 3, 17, 2, 1, 0, 0) ::
  (18, true, .aload_n 0, 1, 0, 0, 0, 0, 0) ::
  (19, false, .ldc 20, 2, 0, 0, 0, jI 40960, 0) ::
  (21, false, .newarray .int, 2, 1, 0, 0, 0, 0) ::
  (23, false, .putfield 21, 3, 17, 4, 2, 0, 0) ::
  (26, true, .aload_n 0, 1, 0, 0, 0, 0, 0) ::
  (27, false, .ldc 20, 2, 0, 0, 0, jI 40960, 0) ::
  (29, false, .newarray .int, 2, 1, 0, 0, 0, 0) ::
  (31, false, .putfield 25, 3, 17, 5, 2, 0, 0) ::
  (34, true, .aload_n 0, 1, 0, 0, 0, 0, 0) ::
  (35, false, .ldc 20, 2, 0, 0, 0, jI 40960, 0) ::
  (37, false, .newarray .int, 2, 1, 0, 0, 0, 0) ::
  (39, false, .putfield 28, 3, 17, 6, 2, 0, 0) ::
  (42, true, .aload_n 0, 1, 0, 0, 0, 0, 0) ::
  (43, false, .sipush 4096, 3, 0, 0, 0, jI 4096, 0) ::
  (46, false, .newarray .int, 2, 1, 0, 0, 0, 0) ::
  (48, false, .putfield 31, 3, 17, 8, 2, 0, 0) ::
  cl_190_1
def cd_190 : List mj_E := cl_190_0
def cx_190 : mj_X := (0, [], [])
theorem tb_190 : mj_tab (mj_mt 190) cx_190 cd_190 mj_mh [(0, 0, 0), (6204, 1036, 1037), (0, 0, 0), (6205, 0, 0), (7100, 0, 0), (0, 0, 0), (6206, 0, 0), (7101, 0, 0), (0, 0, 0), (6207, 0, 0), (1063, 0, 0), (7103, 0, 0), (0, 0, 0), (6207, 0, 0), (1063, 0, 0), (7104, 0, 0), (0, 0, 0), (6207, 0, 0), (1063, 0, 0), (7105, 0, 0), (0, 0, 0), (0, 0, 0), (1063, 0, 0), (7107, 0, 0), (0, 0, 0), (0, 0, 0), (1063, 0, 0), (7108, 0, 0), (0, 0, 0), (6208, 0, 0), (1063, 0, 0), (7109, 0, 0), (0, 0, 0), (0, 0, 0), (2122, 0, 0), (7110, 0, 0), (0, 0, 0), (0, 0, 0), (1063, 0, 0), (7112, 0, 0), (0, 0, 0), (0, 0, 0), (1063, 0, 0), (7115, 0, 0), (0, 0, 0), (0, 0, 0), (2237, 0, 0), (7117, 0, 0), (0, 0, 0), (0, 0, 0), (7119, 0, 0), (0, 0, 0), (0, 0, 0), (7121, 0, 0), (0, 0, 0), (0, 0, 0), (2237, 0, 0), (7124, 0, 0), (0, 0, 0), (6207, 0, 0), (1063, 0, 0), (7127, 0, 0), (0, 0, 0), (6207, 0, 0), (1063, 0, 0), (7128, 0, 0), (0, 0, 0), (6207, 0, 0), (1063, 0, 0), (7129, 0, 0), (0, 0, 0), (0, 0, 0), (1063, 0, 0), (7131, 0, 0), (0, 0, 0), (0, 0, 0), (2122, 0, 0), (7132, 0, 0), (0, 0, 0), (0, 0, 0), (1063, 0, 0), (7135, 0, 0), (0, 0, 0), (0, 0, 0), (1063, 0, 0), (7136, 0, 0), (0, 0, 0), (0, 0, 0), (1063, 0, 0), (7137, 0, 0), (0, 0, 0), (6209, 0, 0), (1063, 0, 0), (7138, 0, 0), (0, 0, 0), (0, 0, 0), (1063, 0, 0), (7140, 0, 0), (0, 0, 0), (0, 0, 0), (1063, 0, 0), (7141, 0, 0), (0, 0, 0), (0, 0, 0), (1063, 0, 0), (7142, 0, 0), (0, 0, 0), (6209, 0, 0), (1063, 0, 0), (7143, 0, 0), (0, 0, 0), (0, 0, 0), (2237, 0, 0), (7144, 0, 0), (0, 0, 0), (0, 0, 0), (2237, 0, 0), (7145, 0, 0), (0, 0, 0), (0, 0, 0), (1063, 0, 0), (7146, 0, 0), (0, 0, 0), (0, 0, 0), (1063, 0, 0), (7148, 0, 0), (0, 0, 0), (6205, 0, 0), (6210, 0, 0), (0, 0, 0)] = true := mj_tab_f (by decide +kernel)
theorem ct_190 (G : mj_G) {zx : (Nat → Int32) × Nat} {h0 h : mj_H} {a' : Nat} (ea : a' = 1412) (c : Cb zx 1413 (fun _ _ => False) h) (m : Em h0 h) {Po : mj_H → Prop} (hb : ∀ h', Cb zx 1441 (fun x y => x = 1412 ∨ (1412 < x ∧ x < 1441)) h' → Em h0 h' → (∀ k, hI h' 1440 k = 0) → mj_Ct G (mj_mt 191) 0 0 [.ref 1412, .long (jL (-4))] h' (fun o h'' => o = .returned none ∧ Po h'')) : mj_Ct G (mj_mt 190) 28 857668 [Value.ref a'] h (fun o h' => o = .returned none ∧ Po h') := by
  subst ea
  refine mj_Ct_of mj_ok tb_190 rfl rfl (Nat.le_of_ble_eq_true rfl) (fun Run hR => ?_)
  have r269 : ∀ (h' : mj_H), Cb zx 1441 (fun x y => (1412 < x ∧ x < 1441) ∨ (x = 1412 ∧ (y = 4 ∨ y = 5 ∨ y = 6 ∨ y = 8 ∨ y = 9 ∨ y = 10 ∨ y = 11 ∨ y = 13 ∨ y = 16 ∨ y = 18 ∨ y = 25 ∨ y = 28 ∨ y = 29 ∨ y = 30 ∨ y = 32 ∨ y = 33 ∨ y = 36 ∨ y = 37 ∨ y = 38 ∨ y = 39 ∨ y = 41 ∨ y = 42 ∨ y = 43 ∨ y = 44 ∨ y = 45 ∨ y = 46 ∨ y = 47 ∨ y = 49))) h' → Em h0 h' → (∀ k, hI h' 1440 k = 0) → Run 269 [some (.ref 1412)] [] h' (0, 0) := by
    intro h' c m z0
    refine hR 60 126 _ _ _ _ _ _ rfl ?_
    refine ⟨c.K 1412 rfl, jcallP (hb h' (c.mono (fun x y q e z => ?_)) m z0) ?_⟩
    · rcases z with z | z
      · subst z
        exact Or.inr ⟨rfl, lyr_1412 e⟩
      · exact Or.inl z
    · rintro o h2 ⟨rfl, p2⟩
      exact ⟨rfl, p2⟩
  have r260 : ∀ (h' : mj_H), Cb zx 1440 (fun x y => (1412 < x ∧ x < 1440) ∨ (x = 1412 ∧ (y = 4 ∨ y = 5 ∨ y = 6 ∨ y = 8 ∨ y = 9 ∨ y = 10 ∨ y = 11 ∨ y = 13 ∨ y = 16 ∨ y = 18 ∨ y = 25 ∨ y = 28 ∨ y = 29 ∨ y = 30 ∨ y = 32 ∨ y = 33 ∨ y = 36 ∨ y = 37 ∨ y = 38 ∨ y = 39 ∨ y = 41 ∨ y = 42 ∨ y = 43 ∨ y = 44 ∨ y = 45 ∨ y = 46 ∨ y = 47))) h' → Em h0 h' → Run 260 [some (.ref 1412)] [] h' (1, 11000) := by
    intro h' c m
    refine hR 60 122 _ _ _ _ _ _ rfl ?_
    have c1 := c.newL (kd := 1) (n := (jI 11000).toNatClampNeg) (fun _ _ p => p.elim (fun z => z.2) (fun z => z.1 ▸ (by decide))) rfl rfl
    exact ⟨⟨by decide, by decide, Nat.le_of_ble_eq_true rfl, Nat.le_of_ble_eq_true rfl⟩, c1.K 1412 rfl, r269 _ ((c1.ref c.1 rfl).mono (fun x y q _ z => mono_st (or_st (or_st (or_st (or_st (or_st (or_st (or_st (or_st (or_st (or_st (or_st (or_st (or_st (or_st (or_st (or_st (or_st (or_st (or_st (or_st (or_st (or_st (or_st (or_st (or_st (or_st id)))))))))))))))))))))))))) z)) ((m.new c.1 (by decide) _ _).sR _ _) (fun k => by show (if 1440 = hT h' then (0 : Int32) else h'.1 1440 k) = 0; rw [if_pos c.1.symm])⟩
  have r251 : ∀ (h' : mj_H), Cb zx 1439 (fun x y => (1412 < x ∧ x < 1439) ∨ (x = 1412 ∧ (y = 4 ∨ y = 5 ∨ y = 6 ∨ y = 8 ∨ y = 9 ∨ y = 10 ∨ y = 11 ∨ y = 13 ∨ y = 16 ∨ y = 18 ∨ y = 25 ∨ y = 28 ∨ y = 29 ∨ y = 30 ∨ y = 32 ∨ y = 33 ∨ y = 36 ∨ y = 37 ∨ y = 38 ∨ y = 39 ∨ y = 41 ∨ y = 42 ∨ y = 43 ∨ y = 44 ∨ y = 45 ∨ y = 46))) h' → Em h0 h' → Run 251 [some (.ref 1412)] [] h' (2, 27500) := by
    intro h' c m
    refine hR 60 118 _ _ _ _ _ _ rfl ?_
    have c1 := c.newL (kd := 1) (n := (jI 16500).toNatClampNeg) (fun _ _ p => p.elim (fun z => z.2) (fun z => z.1 ▸ (by decide))) rfl rfl
    exact ⟨⟨by decide, by decide, Nat.le_of_ble_eq_true rfl, Nat.le_of_ble_eq_true rfl⟩, c1.K 1412 rfl, r260 _ ((c1.ref c.1 rfl).mono (fun x y q _ z => mono_st (or_st (or_st (or_st (or_st (or_st (or_st (or_st (or_st (or_st (or_st (or_st (or_st (or_st (or_st (or_st (or_st (or_st (or_st (or_st (or_st (or_st (or_st (or_st (or_st (or_st id))))))))))))))))))))))))) z)) ((m.new c.1 (by decide) _ _).sR _ _)⟩
  have r242 : ∀ (h' : mj_H), Cb zx 1438 (fun x y => (1412 < x ∧ x < 1438) ∨ (x = 1412 ∧ (y = 4 ∨ y = 5 ∨ y = 6 ∨ y = 8 ∨ y = 9 ∨ y = 10 ∨ y = 11 ∨ y = 13 ∨ y = 16 ∨ y = 18 ∨ y = 25 ∨ y = 28 ∨ y = 29 ∨ y = 30 ∨ y = 32 ∨ y = 33 ∨ y = 36 ∨ y = 37 ∨ y = 38 ∨ y = 39 ∨ y = 41 ∨ y = 42 ∨ y = 43 ∨ y = 44 ∨ y = 45))) h' → Em h0 h' → Run 242 [some (.ref 1412)] [] h' (3, 27756) := by
    intro h' c m
    refine hR 60 114 _ _ _ _ _ _ rfl ?_
    have c1 := c.newL (kd := 2) (n := (jI 256).toNatClampNeg) (fun _ _ p => p.elim (fun z => z.2) (fun z => z.1 ▸ (by decide))) rfl rfl
    exact ⟨⟨by decide, by decide, Nat.le_of_ble_eq_true rfl, Nat.le_of_ble_eq_true rfl⟩, c1.K 1412 rfl, r251 _ ((c1.ref c.1 rfl).mono (fun x y q _ z => mono_st (or_st (or_st (or_st (or_st (or_st (or_st (or_st (or_st (or_st (or_st (or_st (or_st (or_st (or_st (or_st (or_st (or_st (or_st (or_st (or_st (or_st (or_st (or_st (or_st id)))))))))))))))))))))))) z)) ((m.new c.1 (by decide) _ _).sR _ _)⟩
  have r233 : ∀ (h' : mj_H), Cb zx 1437 (fun x y => (1412 < x ∧ x < 1437) ∨ (x = 1412 ∧ (y = 4 ∨ y = 5 ∨ y = 6 ∨ y = 8 ∨ y = 9 ∨ y = 10 ∨ y = 11 ∨ y = 13 ∨ y = 16 ∨ y = 18 ∨ y = 25 ∨ y = 28 ∨ y = 29 ∨ y = 30 ∨ y = 32 ∨ y = 33 ∨ y = 36 ∨ y = 37 ∨ y = 38 ∨ y = 39 ∨ y = 41 ∨ y = 42 ∨ y = 43 ∨ y = 44))) h' → Em h0 h' → Run 233 [some (.ref 1412)] [] h' (4, 28012) := by
    intro h' c m
    refine hR 60 110 _ _ _ _ _ _ rfl ?_
    have c1 := c.newL (kd := 2) (n := (jI 256).toNatClampNeg) (fun _ _ p => p.elim (fun z => z.2) (fun z => z.1 ▸ (by decide))) rfl rfl
    exact ⟨⟨by decide, by decide, Nat.le_of_ble_eq_true rfl, Nat.le_of_ble_eq_true rfl⟩, c1.K 1412 rfl, r242 _ ((c1.ref c.1 rfl).mono (fun x y q _ z => mono_st (or_st (or_st (or_st (or_st (or_st (or_st (or_st (or_st (or_st (or_st (or_st (or_st (or_st (or_st (or_st (or_st (or_st (or_st (or_st (or_st (or_st (or_st (or_st id))))))))))))))))))))))) z)) ((m.new c.1 (by decide) _ _).sR _ _)⟩
  have r225 : ∀ (h' : mj_H), Cb zx 1436 (fun x y => (1412 < x ∧ x < 1436) ∨ (x = 1412 ∧ (y = 4 ∨ y = 5 ∨ y = 6 ∨ y = 8 ∨ y = 9 ∨ y = 10 ∨ y = 11 ∨ y = 13 ∨ y = 16 ∨ y = 18 ∨ y = 25 ∨ y = 28 ∨ y = 29 ∨ y = 30 ∨ y = 32 ∨ y = 33 ∨ y = 36 ∨ y = 37 ∨ y = 38 ∨ y = 39 ∨ y = 41 ∨ y = 42 ∨ y = 43))) h' → Em h0 h' → Run 225 [some (.ref 1412)] [] h' (5, 290156) := by
    intro h' c m
    refine hR 60 106 _ _ _ _ _ _ rfl ?_
    have c1 := c.newL (kd := 1) (n := (jI 262144).toNatClampNeg) (fun _ _ p => p.elim (fun z => z.2) (fun z => z.1 ▸ (by decide))) rfl rfl
    exact ⟨⟨by decide, by decide, Nat.le_of_ble_eq_true rfl, Nat.le_of_ble_eq_true rfl⟩, c1.K 1412 rfl, r233 _ ((c1.ref c.1 rfl).mono (fun x y q _ z => mono_st (or_st (or_st (or_st (or_st (or_st (or_st (or_st (or_st (or_st (or_st (or_st (or_st (or_st (or_st (or_st (or_st (or_st (or_st (or_st (or_st (or_st (or_st id)))))))))))))))))))))) z)) ((m.new c.1 (by decide) _ _).sR _ _)⟩
  have r216 : ∀ (h' : mj_H), Cb zx 1435 (fun x y => (1412 < x ∧ x < 1435) ∨ (x = 1412 ∧ (y = 4 ∨ y = 5 ∨ y = 6 ∨ y = 8 ∨ y = 9 ∨ y = 10 ∨ y = 11 ∨ y = 13 ∨ y = 16 ∨ y = 18 ∨ y = 25 ∨ y = 28 ∨ y = 29 ∨ y = 30 ∨ y = 32 ∨ y = 33 ∨ y = 36 ∨ y = 37 ∨ y = 38 ∨ y = 39 ∨ y = 41 ∨ y = 42))) h' → Em h0 h' → Run 216 [some (.ref 1412)] [] h' (6, 290668) := by
    intro h' c m
    refine hR 60 102 _ _ _ _ _ _ rfl ?_
    have c1 := c.newL (kd := 1) (n := (jI 512).toNatClampNeg) (fun _ _ p => p.elim (fun z => z.2) (fun z => z.1 ▸ (by decide))) rfl rfl
    exact ⟨⟨by decide, by decide, Nat.le_of_ble_eq_true rfl, Nat.le_of_ble_eq_true rfl⟩, c1.K 1412 rfl, r225 _ ((c1.ref c.1 rfl).mono (fun x y q _ z => mono_st (or_st (or_st (or_st (or_st (or_st (or_st (or_st (or_st (or_st (or_st (or_st (or_st (or_st (or_st (or_st (or_st (or_st (or_st (or_st (or_st (or_st id))))))))))))))))))))) z)) ((m.new c.1 (by decide) _ _).sR _ _)⟩
  have r207 : ∀ (h' : mj_H), Cb zx 1434 (fun x y => (1412 < x ∧ x < 1434) ∨ (x = 1412 ∧ (y = 4 ∨ y = 5 ∨ y = 6 ∨ y = 8 ∨ y = 9 ∨ y = 10 ∨ y = 11 ∨ y = 13 ∨ y = 16 ∨ y = 18 ∨ y = 25 ∨ y = 28 ∨ y = 29 ∨ y = 30 ∨ y = 32 ∨ y = 33 ∨ y = 36 ∨ y = 37 ∨ y = 38 ∨ y = 39 ∨ y = 41))) h' → Em h0 h' → Run 207 [some (.ref 1412)] [] h' (7, 290924) := by
    intro h' c m
    refine hR 60 98 _ _ _ _ _ _ rfl ?_
    have c1 := c.newL (kd := 1) (n := (jI 256).toNatClampNeg) (fun _ _ p => p.elim (fun z => z.2) (fun z => z.1 ▸ (by decide))) rfl rfl
    exact ⟨⟨by decide, by decide, Nat.le_of_ble_eq_true rfl, Nat.le_of_ble_eq_true rfl⟩, c1.K 1412 rfl, r216 _ ((c1.ref c.1 rfl).mono (fun x y q _ z => mono_st (or_st (or_st (or_st (or_st (or_st (or_st (or_st (or_st (or_st (or_st (or_st (or_st (or_st (or_st (or_st (or_st (or_st (or_st (or_st (or_st id)))))))))))))))))))) z)) ((m.new c.1 (by decide) _ _).sR _ _)⟩
  have r198 : ∀ (h' : mj_H), Cb zx 1433 (fun x y => (1412 < x ∧ x < 1433) ∨ (x = 1412 ∧ (y = 4 ∨ y = 5 ∨ y = 6 ∨ y = 8 ∨ y = 9 ∨ y = 10 ∨ y = 11 ∨ y = 13 ∨ y = 16 ∨ y = 18 ∨ y = 25 ∨ y = 28 ∨ y = 29 ∨ y = 30 ∨ y = 32 ∨ y = 33 ∨ y = 36 ∨ y = 37 ∨ y = 38 ∨ y = 39))) h' → Em h0 h' → Run 198 [some (.ref 1412)] [] h' (8, 291180) := by
    intro h' c m
    refine hR 60 94 _ _ _ _ _ _ rfl ?_
    have c1 := c.newL (kd := 1) (n := (jI 256).toNatClampNeg) (fun _ _ p => p.elim (fun z => z.2) (fun z => z.1 ▸ (by decide))) rfl rfl
    exact ⟨⟨by decide, by decide, Nat.le_of_ble_eq_true rfl, Nat.le_of_ble_eq_true rfl⟩, c1.K 1412 rfl, r207 _ ((c1.ref c.1 rfl).mono (fun x y q _ z => mono_st (or_st (or_st (or_st (or_st (or_st (or_st (or_st (or_st (or_st (or_st (or_st (or_st (or_st (or_st (or_st (or_st (or_st (or_st (or_st id))))))))))))))))))) z)) ((m.new c.1 (by decide) _ _).sR _ _)⟩
  have r190 : ∀ (h' : mj_H), Cb zx 1432 (fun x y => (1412 < x ∧ x < 1432) ∨ (x = 1412 ∧ (y = 4 ∨ y = 5 ∨ y = 6 ∨ y = 8 ∨ y = 9 ∨ y = 10 ∨ y = 11 ∨ y = 13 ∨ y = 16 ∨ y = 18 ∨ y = 25 ∨ y = 28 ∨ y = 29 ∨ y = 30 ∨ y = 32 ∨ y = 33 ∨ y = 36 ∨ y = 37 ∨ y = 38))) h' → Em h0 h' → Run 190 [some (.ref 1412)] [] h' (9, 553324) := by
    intro h' c m
    refine hR 60 90 _ _ _ _ _ _ rfl ?_
    have c1 := c.newL (kd := 1) (n := (jI 262144).toNatClampNeg) (fun _ _ p => p.elim (fun z => z.2) (fun z => z.1 ▸ (by decide))) rfl rfl
    exact ⟨⟨by decide, by decide, Nat.le_of_ble_eq_true rfl, Nat.le_of_ble_eq_true rfl⟩, c1.K 1412 rfl, r198 _ ((c1.ref c.1 rfl).mono (fun x y q _ z => mono_st (or_st (or_st (or_st (or_st (or_st (or_st (or_st (or_st (or_st (or_st (or_st (or_st (or_st (or_st (or_st (or_st (or_st (or_st id)))))))))))))))))) z)) ((m.new c.1 (by decide) _ _).sR _ _)⟩
  have r181 : ∀ (h' : mj_H), Cb zx 1431 (fun x y => (1412 < x ∧ x < 1431) ∨ (x = 1412 ∧ (y = 4 ∨ y = 5 ∨ y = 6 ∨ y = 8 ∨ y = 9 ∨ y = 10 ∨ y = 11 ∨ y = 13 ∨ y = 16 ∨ y = 18 ∨ y = 25 ∨ y = 28 ∨ y = 29 ∨ y = 30 ∨ y = 32 ∨ y = 33 ∨ y = 36 ∨ y = 37))) h' → Em h0 h' → Run 181 [some (.ref 1412)] [] h' (10, 553836) := by
    intro h' c m
    refine hR 60 86 _ _ _ _ _ _ rfl ?_
    have c1 := c.newL (kd := 1) (n := (jI 512).toNatClampNeg) (fun _ _ p => p.elim (fun z => z.2) (fun z => z.1 ▸ (by decide))) rfl rfl
    exact ⟨⟨by decide, by decide, Nat.le_of_ble_eq_true rfl, Nat.le_of_ble_eq_true rfl⟩, c1.K 1412 rfl, r190 _ ((c1.ref c.1 rfl).mono (fun x y q _ z => mono_st (or_st (or_st (or_st (or_st (or_st (or_st (or_st (or_st (or_st (or_st (or_st (or_st (or_st (or_st (or_st (or_st (or_st id))))))))))))))))) z)) ((m.new c.1 (by decide) _ _).sR _ _)⟩
  have r172 : ∀ (h' : mj_H), Cb zx 1430 (fun x y => (1412 < x ∧ x < 1430) ∨ (x = 1412 ∧ (y = 4 ∨ y = 5 ∨ y = 6 ∨ y = 8 ∨ y = 9 ∨ y = 10 ∨ y = 11 ∨ y = 13 ∨ y = 16 ∨ y = 18 ∨ y = 25 ∨ y = 28 ∨ y = 29 ∨ y = 30 ∨ y = 32 ∨ y = 33 ∨ y = 36))) h' → Em h0 h' → Run 172 [some (.ref 1412)] [] h' (11, 554092) := by
    intro h' c m
    refine hR 60 82 _ _ _ _ _ _ rfl ?_
    have c1 := c.newL (kd := 1) (n := (jI 256).toNatClampNeg) (fun _ _ p => p.elim (fun z => z.2) (fun z => z.1 ▸ (by decide))) rfl rfl
    exact ⟨⟨by decide, by decide, Nat.le_of_ble_eq_true rfl, Nat.le_of_ble_eq_true rfl⟩, c1.K 1412 rfl, r181 _ ((c1.ref c.1 rfl).mono (fun x y q _ z => mono_st (or_st (or_st (or_st (or_st (or_st (or_st (or_st (or_st (or_st (or_st (or_st (or_st (or_st (or_st (or_st (or_st id)))))))))))))))) z)) ((m.new c.1 (by decide) _ _).sR _ _)⟩
  have r163 : ∀ (h' : mj_H), Cb zx 1429 (fun x y => (1412 < x ∧ x < 1429) ∨ (x = 1412 ∧ (y = 4 ∨ y = 5 ∨ y = 6 ∨ y = 8 ∨ y = 9 ∨ y = 10 ∨ y = 11 ∨ y = 13 ∨ y = 16 ∨ y = 18 ∨ y = 25 ∨ y = 28 ∨ y = 29 ∨ y = 30 ∨ y = 32 ∨ y = 33))) h' → Em h0 h' → Run 163 [some (.ref 1412)] [] h' (12, 554348) := by
    intro h' c m
    refine hR 60 78 _ _ _ _ _ _ rfl ?_
    have c1 := c.newL (kd := 1) (n := (jI 256).toNatClampNeg) (fun _ _ p => p.elim (fun z => z.2) (fun z => z.1 ▸ (by decide))) rfl rfl
    exact ⟨⟨by decide, by decide, Nat.le_of_ble_eq_true rfl, Nat.le_of_ble_eq_true rfl⟩, c1.K 1412 rfl, r172 _ ((c1.ref c.1 rfl).mono (fun x y q _ z => mono_st (or_st (or_st (or_st (or_st (or_st (or_st (or_st (or_st (or_st (or_st (or_st (or_st (or_st (or_st (or_st id))))))))))))))) z)) ((m.new c.1 (by decide) _ _).sR _ _)⟩
  have r154 : ∀ (h' : mj_H), Cb zx 1428 (fun x y => (1412 < x ∧ x < 1428) ∨ (x = 1412 ∧ (y = 4 ∨ y = 5 ∨ y = 6 ∨ y = 8 ∨ y = 9 ∨ y = 10 ∨ y = 11 ∨ y = 13 ∨ y = 16 ∨ y = 18 ∨ y = 25 ∨ y = 28 ∨ y = 29 ∨ y = 30 ∨ y = 32))) h' → Em h0 h' → Run 154 [some (.ref 1412)] [] h' (13, 558444) := by
    intro h' c m
    refine hR 60 74 _ _ _ _ _ _ rfl ?_
    have c1 := c.newL (kd := 4) (n := (jI 4096).toNatClampNeg) (fun _ _ p => p.elim (fun z => z.2) (fun z => z.1 ▸ (by decide))) rfl rfl
    exact ⟨⟨by decide, by decide, Nat.le_of_ble_eq_true rfl, Nat.le_of_ble_eq_true rfl⟩, c1.K 1412 rfl, r163 _ ((c1.ref c.1 rfl).mono (fun x y q _ z => mono_st (or_st (or_st (or_st (or_st (or_st (or_st (or_st (or_st (or_st (or_st (or_st (or_st (or_st (or_st id)))))))))))))) z)) ((m.new c.1 (by decide) _ _).sR _ _)⟩
  have r145 : ∀ (h' : mj_H), Cb zx 1427 (fun x y => (1412 < x ∧ x < 1427) ∨ (x = 1412 ∧ (y = 4 ∨ y = 5 ∨ y = 6 ∨ y = 8 ∨ y = 9 ∨ y = 10 ∨ y = 11 ∨ y = 13 ∨ y = 16 ∨ y = 18 ∨ y = 25 ∨ y = 28 ∨ y = 29 ∨ y = 30))) h' → Em h0 h' → Run 145 [some (.ref 1412)] [] h' (14, 562540) := by
    intro h' c m
    refine hR 60 70 _ _ _ _ _ _ rfl ?_
    have c1 := c.newL (kd := 1) (n := (jI 4096).toNatClampNeg) (fun _ _ p => p.elim (fun z => z.2) (fun z => z.1 ▸ (by decide))) rfl rfl
    exact ⟨⟨by decide, by decide, Nat.le_of_ble_eq_true rfl, Nat.le_of_ble_eq_true rfl⟩, c1.K 1412 rfl, r154 _ ((c1.ref c.1 rfl).mono (fun x y q _ z => mono_st (or_st (or_st (or_st (or_st (or_st (or_st (or_st (or_st (or_st (or_st (or_st (or_st (or_st id))))))))))))) z)) ((m.new c.1 (by decide) _ _).sR _ _)⟩
  have r137 : ∀ (h' : mj_H), Cb zx 1426 (fun x y => (1412 < x ∧ x < 1426) ∨ (x = 1412 ∧ (y = 4 ∨ y = 5 ∨ y = 6 ∨ y = 8 ∨ y = 9 ∨ y = 10 ∨ y = 11 ∨ y = 13 ∨ y = 16 ∨ y = 18 ∨ y = 25 ∨ y = 28 ∨ y = 29))) h' → Em h0 h' → Run 137 [some (.ref 1412)] [] h' (15, 603500) := by
    intro h' c m
    refine hR 60 66 _ _ _ _ _ _ rfl ?_
    have c1 := c.newL (kd := 1) (n := (jI 40960).toNatClampNeg) (fun _ _ p => p.elim (fun z => z.2) (fun z => z.1 ▸ (by decide))) rfl rfl
    exact ⟨⟨by decide, by decide, Nat.le_of_ble_eq_true rfl, Nat.le_of_ble_eq_true rfl⟩, c1.K 1412 rfl, r145 _ ((c1.ref c.1 rfl).mono (fun x y q _ z => mono_st (or_st (or_st (or_st (or_st (or_st (or_st (or_st (or_st (or_st (or_st (or_st (or_st id)))))))))))) z)) ((m.new c.1 (by decide) _ _).sR _ _)⟩
  have r129 : ∀ (h' : mj_H), Cb zx 1425 (fun x y => (1412 < x ∧ x < 1425) ∨ (x = 1412 ∧ (y = 4 ∨ y = 5 ∨ y = 6 ∨ y = 8 ∨ y = 9 ∨ y = 10 ∨ y = 11 ∨ y = 13 ∨ y = 16 ∨ y = 18 ∨ y = 25 ∨ y = 28))) h' → Em h0 h' → Run 129 [some (.ref 1412)] [] h' (16, 644460) := by
    intro h' c m
    refine hR 60 62 _ _ _ _ _ _ rfl ?_
    have c1 := c.newL (kd := 1) (n := (jI 40960).toNatClampNeg) (fun _ _ p => p.elim (fun z => z.2) (fun z => z.1 ▸ (by decide))) rfl rfl
    exact ⟨⟨by decide, by decide, Nat.le_of_ble_eq_true rfl, Nat.le_of_ble_eq_true rfl⟩, c1.K 1412 rfl, r137 _ ((c1.ref c.1 rfl).mono (fun x y q _ z => mono_st (or_st (or_st (or_st (or_st (or_st (or_st (or_st (or_st (or_st (or_st (or_st id))))))))))) z)) ((m.new c.1 (by decide) _ _).sR _ _)⟩
  have r121 : ∀ (h' : mj_H), Cb zx 1424 (fun x y => (1412 < x ∧ x < 1424) ∨ (x = 1412 ∧ (y = 4 ∨ y = 5 ∨ y = 6 ∨ y = 8 ∨ y = 9 ∨ y = 10 ∨ y = 11 ∨ y = 13 ∨ y = 16 ∨ y = 18 ∨ y = 25))) h' → Em h0 h' → Run 121 [some (.ref 1412)] [] h' (17, 685420) := by
    intro h' c m
    refine hR 60 58 _ _ _ _ _ _ rfl ?_
    have c1 := c.newL (kd := 1) (n := (jI 40960).toNatClampNeg) (fun _ _ p => p.elim (fun z => z.2) (fun z => z.1 ▸ (by decide))) rfl rfl
    exact ⟨⟨by decide, by decide, Nat.le_of_ble_eq_true rfl, Nat.le_of_ble_eq_true rfl⟩, c1.K 1412 rfl, r129 _ ((c1.ref c.1 rfl).mono (fun x y q _ z => mono_st (or_st (or_st (or_st (or_st (or_st (or_st (or_st (or_st (or_st (or_st id)))))))))) z)) ((m.new c.1 (by decide) _ _).sR _ _)⟩
  have r112 : ∀ (h' : mj_H), Cb zx 1423 (fun x y => (1412 < x ∧ x < 1423) ∨ (x = 1412 ∧ (y = 4 ∨ y = 5 ∨ y = 6 ∨ y = 8 ∨ y = 9 ∨ y = 10 ∨ y = 11 ∨ y = 13 ∨ y = 16 ∨ y = 18))) h' → Em h0 h' → Run 112 [some (.ref 1412)] [] h' (18, 685620) := by
    intro h' c m
    refine hR 60 54 _ _ _ _ _ _ rfl ?_
    have c1 := c.newL (kd := 2) (n := (jI 200).toNatClampNeg) (fun _ _ p => p.elim (fun z => z.2) (fun z => z.1 ▸ (by decide))) rfl rfl
    exact ⟨⟨by decide, by decide, Nat.le_of_ble_eq_true rfl, Nat.le_of_ble_eq_true rfl⟩, c1.K 1412 rfl, r121 _ ((c1.ref c.1 rfl).mono (fun x y q _ z => mono_st (or_st (or_st (or_st (or_st (or_st (or_st (or_st (or_st (or_st id))))))))) z)) ((m.new c.1 (by decide) _ _).sR _ _)⟩
  have r107 : ∀ (h' : mj_H), Cb zx 1423 (fun x y => (1412 < x ∧ x < 1423) ∨ (x = 1412 ∧ (y = 4 ∨ y = 5 ∨ y = 6 ∨ y = 8 ∨ y = 9 ∨ y = 10 ∨ y = 11 ∨ y = 13 ∨ y = 16 ∨ y = 18))) h' → Em h0 h' → Run 107 [some (.ref 1412)] [] h' (18, 685620) := by
    intro h' c m
    refine hR 60 51 _ _ _ _ _ _ rfl ?_
    exact ⟨c.K 1412 rfl, r112 _ (c.sJ _ _ _) (m.sJ (by decide) _)⟩
  have r102 : ∀ (h' : mj_H), Cb zx 1423 (fun x y => (1412 < x ∧ x < 1423) ∨ (x = 1412 ∧ (y = 4 ∨ y = 5 ∨ y = 6 ∨ y = 8 ∨ y = 9 ∨ y = 10 ∨ y = 11 ∨ y = 13 ∨ y = 16 ∨ y = 18))) h' → Em h0 h' → Run 102 [some (.ref 1412)] [] h' (18, 685620) := by
    intro h' c m
    refine hR 60 48 _ _ _ _ _ _ rfl ?_
    exact ⟨c.K 1412 rfl, r107 _ (c.sJ _ _ _) (m.sJ (by decide) _)⟩
  have r94 : ∀ (h' : mj_H), Cb zx 1422 (fun x y => (1412 < x ∧ x < 1422) ∨ (x = 1412 ∧ (y = 4 ∨ y = 5 ∨ y = 6 ∨ y = 8 ∨ y = 9 ∨ y = 10 ∨ y = 11 ∨ y = 13 ∨ y = 16))) h' → Em h0 h' → Run 94 [some (.ref 1412)] [] h' (19, 685628) := by
    intro h' c m
    refine hR 60 44 _ _ _ _ _ _ rfl ?_
    have c1 := c.newL (kd := 2) (n := (jI 8).toNatClampNeg) (fun _ _ p => p.elim (fun z => z.2) (fun z => z.1 ▸ (by decide))) rfl rfl
    exact ⟨⟨by decide, by decide, Nat.le_of_ble_eq_true rfl, Nat.le_of_ble_eq_true rfl⟩, c1.K 1412 rfl, r102 _ ((c1.ref c.1 rfl).mono (fun x y q _ z => mono_st (or_st (or_st (or_st (or_st (or_st (or_st (or_st (or_st id)))))))) z)) ((m.new c.1 (by decide) _ _).sR _ _)⟩
  have r86 : ∀ (h' : mj_H), Cb zx 1421 (fun x y => (1412 < x ∧ x < 1421) ∨ (x = 1412 ∧ (y = 4 ∨ y = 5 ∨ y = 6 ∨ y = 8 ∨ y = 9 ∨ y = 10 ∨ y = 11 ∨ y = 13))) h' → Em h0 h' → Run 86 [some (.ref 1412)] [] h' (20, 685636) := by
    intro h' c m
    refine hR 60 40 _ _ _ _ _ _ rfl ?_
    have c1 := c.newL (kd := 1) (n := (jI 8).toNatClampNeg) (fun _ _ p => p.elim (fun z => z.2) (fun z => z.1 ▸ (by decide))) rfl rfl
    exact ⟨⟨by decide, by decide, Nat.le_of_ble_eq_true rfl, Nat.le_of_ble_eq_true rfl⟩, c1.K 1412 rfl, r94 _ ((c1.ref c.1 rfl).mono (fun x y q _ z => mono_st (or_st (or_st (or_st (or_st (or_st (or_st (or_st id))))))) z)) ((m.new c.1 (by decide) _ _).sR _ _)⟩
  have r77 : ∀ (h' : mj_H), Cb zx 1420 (fun x y => (1412 < x ∧ x < 1420) ∨ (x = 1412 ∧ (y = 4 ∨ y = 5 ∨ y = 6 ∨ y = 8 ∨ y = 9 ∨ y = 10 ∨ y = 11))) h' → Em h0 h' → Run 77 [some (.ref 1412)] [] h' (21, 689732) := by
    intro h' c m
    refine hR 60 36 _ _ _ _ _ _ rfl ?_
    have c1 := c.newL (kd := 1) (n := (jI 4096).toNatClampNeg) (fun _ _ p => p.elim (fun z => z.2) (fun z => z.1 ▸ (by decide))) rfl rfl
    exact ⟨⟨by decide, by decide, Nat.le_of_ble_eq_true rfl, Nat.le_of_ble_eq_true rfl⟩, c1.K 1412 rfl, r86 _ ((c1.ref c.1 rfl).mono (fun x y q _ z => mono_st (or_st (or_st (or_st (or_st (or_st (or_st id)))))) z)) ((m.new c.1 (by decide) _ _).sR _ _)⟩
  have r68 : ∀ (h' : mj_H), Cb zx 1419 (fun x y => (1412 < x ∧ x < 1419) ∨ (x = 1412 ∧ (y = 4 ∨ y = 5 ∨ y = 6 ∨ y = 8 ∨ y = 9 ∨ y = 10))) h' → Em h0 h' → Run 68 [some (.ref 1412)] [] h' (22, 693828) := by
    intro h' c m
    refine hR 60 32 _ _ _ _ _ _ rfl ?_
    have c1 := c.newL (kd := 4) (n := (jI 4096).toNatClampNeg) (fun _ _ p => p.elim (fun z => z.2) (fun z => z.1 ▸ (by decide))) rfl rfl
    exact ⟨⟨by decide, by decide, Nat.le_of_ble_eq_true rfl, Nat.le_of_ble_eq_true rfl⟩, c1.K 1412 rfl, r77 _ ((c1.ref c.1 rfl).mono (fun x y q _ z => mono_st (or_st (or_st (or_st (or_st (or_st id))))) z)) ((m.new c.1 (by decide) _ _).sR _ _)⟩
  have r60 : ∀ (h' : mj_H), Cb zx 1418 (fun x y => (1412 < x ∧ x < 1418) ∨ (x = 1412 ∧ (y = 4 ∨ y = 5 ∨ y = 6 ∨ y = 8 ∨ y = 9))) h' → Em h0 h' → Run 60 [some (.ref 1412)] [] h' (23, 726596) := by
    intro h' c m
    refine hR 60 28 _ _ _ _ _ _ rfl ?_
    have c1 := c.newL (kd := 1) (n := (jI 32768).toNatClampNeg) (fun _ _ p => p.elim (fun z => z.2) (fun z => z.1 ▸ (by decide))) rfl rfl
    exact ⟨⟨by decide, by decide, Nat.le_of_ble_eq_true rfl, Nat.le_of_ble_eq_true rfl⟩, c1.K 1412 rfl, r68 _ ((c1.ref c.1 rfl).mono (fun x y q _ z => mono_st (or_st (or_st (or_st (or_st id)))) z)) ((m.new c.1 (by decide) _ _).sR _ _)⟩
  have r51 : ∀ (h' : mj_H), Cb zx 1417 (fun x y => (1412 < x ∧ x < 1417) ∨ (x = 1412 ∧ (y = 4 ∨ y = 5 ∨ y = 6 ∨ y = 8))) h' → Em h0 h' → Run 51 [some (.ref 1412)] [] h' (24, 730692) := by
    intro h' c m
    refine hR 60 24 _ _ _ _ _ _ rfl ?_
    have c1 := c.newL (kd := 1) (n := (jI 4096).toNatClampNeg) (fun _ _ p => p.elim (fun z => z.2) (fun z => z.1 ▸ (by decide))) rfl rfl
    exact ⟨⟨by decide, by decide, Nat.le_of_ble_eq_true rfl, Nat.le_of_ble_eq_true rfl⟩, c1.K 1412 rfl, r60 _ ((c1.ref c.1 rfl).mono (fun x y q _ z => mono_st (or_st (or_st (or_st id))) z)) ((m.new c.1 (by decide) _ _).sR _ _)⟩
  have r42 : ∀ (h' : mj_H), Cb zx 1416 (fun x y => (1412 < x ∧ x < 1416) ∨ (x = 1412 ∧ (y = 4 ∨ y = 5 ∨ y = 6))) h' → Em h0 h' → Run 42 [some (.ref 1412)] [] h' (25, 734788) := by
    intro h' c m
    refine hR 60 20 _ _ _ _ _ _ rfl ?_
    have c1 := c.newL (kd := 1) (n := (jI 4096).toNatClampNeg) (fun _ _ p => p.elim (fun z => z.2) (fun z => z.1 ▸ (by decide))) rfl rfl
    exact ⟨⟨by decide, by decide, Nat.le_of_ble_eq_true rfl, Nat.le_of_ble_eq_true rfl⟩, c1.K 1412 rfl, r51 _ ((c1.ref c.1 rfl).mono (fun x y q _ z => mono_st (or_st (or_st id)) z)) ((m.new c.1 (by decide) _ _).sR _ _)⟩
  have r34 : ∀ (h' : mj_H), Cb zx 1415 (fun x y => (1412 < x ∧ x < 1415) ∨ (x = 1412 ∧ (y = 4 ∨ y = 5))) h' → Em h0 h' → Run 34 [some (.ref 1412)] [] h' (26, 775748) := by
    intro h' c m
    refine hR 60 16 _ _ _ _ _ _ rfl ?_
    have c1 := c.newL (kd := 1) (n := (jI 40960).toNatClampNeg) (fun _ _ p => p.elim (fun z => z.2) (fun z => z.1 ▸ (by decide))) rfl rfl
    exact ⟨⟨by decide, by decide, Nat.le_of_ble_eq_true rfl, Nat.le_of_ble_eq_true rfl⟩, c1.K 1412 rfl, r42 _ ((c1.ref c.1 rfl).mono (fun x y q _ z => mono_st (or_st id) z)) ((m.new c.1 (by decide) _ _).sR _ _)⟩
  have r26 : ∀ (h' : mj_H), Cb zx 1414 (fun x y => (1412 < x ∧ x < 1414) ∨ (x = 1412 ∧ (y = 4))) h' → Em h0 h' → Run 26 [some (.ref 1412)] [] h' (27, 816708) := by
    intro h' c m
    refine hR 60 12 _ _ _ _ _ _ rfl ?_
    have c1 := c.newL (kd := 1) (n := (jI 40960).toNatClampNeg) (fun _ _ p => p.elim (fun z => z.2) (fun z => z.1 ▸ (by decide))) rfl rfl
    exact ⟨⟨by decide, by decide, Nat.le_of_ble_eq_true rfl, Nat.le_of_ble_eq_true rfl⟩, c1.K 1412 rfl, r34 _ ((c1.ref c.1 rfl).mono (fun x y q _ z => mono_st id z)) ((m.new c.1 (by decide) _ _).sR _ _)⟩
  have r18 : ∀ (h' : mj_H), Cb zx 1413 (fun x y => (1412 < x ∧ x < 1413)) h' → Em h0 h' → Run 18 [some (.ref 1412)] [] h' (28, 857668) := by
    intro h' c m
    refine hR 60 8 _ _ _ _ _ _ rfl ?_
    have c1 := c.newL (kd := 1) (n := (jI 40960).toNatClampNeg) (fun x y p => by omega) rfl rfl
    exact ⟨⟨by decide, by decide, Nat.le_of_ble_eq_true rfl, Nat.le_of_ble_eq_true rfl⟩, c1.K 1412 rfl, r26 _ ((c1.ref c.1 rfl).mono (fun x y q _ z => by omega)) ((m.new c.1 (by decide) _ _).sR _ _)⟩
  have r11 : ∀ (h' : mj_H), Cb zx 1413 (fun x y => (1412 < x ∧ x < 1413)) h' → Em h0 h' → Run 11 [some (.ref 1412)] [] h' (28, 857668) := by
    intro h' c m
    refine hR 60 5 _ _ _ _ _ _ rfl ?_
    exact ⟨c.K 1412 rfl, r18 _ (c.sJ _ _ _) (m.sJ (by decide) _)⟩
  have r4 : ∀ (h' : mj_H), Cb zx 1413 (fun x y => (1412 < x ∧ x < 1413)) h' → Em h0 h' → Run 4 [some (.ref 1412)] [] h' (28, 857668) := by
    intro h' c m
    refine hR 60 2 _ _ _ _ _ _ rfl ?_
    exact ⟨c.K 1412 rfl, r11 _ (c.sJ _ _ _) (m.sJ (by decide) _)⟩
  refine hR 60 0 _ _ _ _ _ _ rfl ?_
  exact r4 h (c.mono (fun x y q _ z => by omega)) m
