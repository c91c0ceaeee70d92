/-! WORDS that ride in every contract: nest mates, castable, arrays, literals, statics -/
set_option maxRecDepth 100000
def zNest : List Cond := [
  (Jvm.Cond.fieldLinkNest "YearSkinsModel" (160 : Nat) "YearSkinsModel$Land" "wide" "I" "YearSkinsModel"),
  (Jvm.Cond.fieldLinkNest "YearSkinsModel" (168 : Nat) "YearSkinsModel$Land" "high" "I" "YearSkinsModel"),
  (Jvm.Cond.fieldLinkNest "YearSkinsModel" (223 : Nat) "YearSkinsModel$Land" "year" "I" "YearSkinsModel"),
  (Jvm.Cond.fieldLinkNest "YearSkinsModel" (296 : Nat) "YearSkinsModel$Land" "births" "I" "YearSkinsModel"),
  (Jvm.Cond.fieldLinkNest "YearSkinsModel" (298 : Nat) "YearSkinsModel$Land" "fire" "I" "YearSkinsModel"),
  (Jvm.Cond.fieldLinkNest "YearSkinsModel" (300 : Nat) "YearSkinsModel$Land" "earns" "I" "YearSkinsModel"),
  (Jvm.Cond.fieldLinkNest "YearSkinsModel" (302 : Nat) "YearSkinsModel$Land" "waters" "I" "YearSkinsModel"),
  (Jvm.Cond.fieldLinkNest "YearSkinsModel" (226 : Nat) "YearSkinsModel$Land" "stones" "I" "YearSkinsModel"),
  (Jvm.Cond.fieldLinkNest "YearSkinsModel" (229 : Nat) "YearSkinsModel$Land" "houses" "I" "YearSkinsModel"),
  (Jvm.Cond.fieldLinkNest "YearSkinsModel" (388 : Nat) "YearSkinsModel$Land" "heirs" "I" "YearSkinsModel"),
  (Jvm.Cond.fieldLinkNest "YearSkinsModel" (394 : Nat) "YearSkinsModel$Land" "walls" "I" "YearSkinsModel"),
  (Jvm.Cond.fieldLinkNest "YearSkinsModel" (401 : Nat) "YearSkinsModel$Land" "olders" "I" "YearSkinsModel"),
  (Jvm.Cond.fieldLinkNest "YearSkinsModel" (205 : Nat) "YearSkinsModel$Land" "names" "I" "YearSkinsModel"),
  (Jvm.Cond.fieldLinkNest "YearSkinsModel" (281 : Nat) "YearSkinsModel$Land" "far" "Z" "YearSkinsModel"),
  (Jvm.Cond.fieldLinkNest "YearSkinsModel" (284 : Nat) "YearSkinsModel$Land" "share" "Z" "YearSkinsModel"),
  (Jvm.Cond.fieldLinkNest "YearSkinsModel" (308 : Nat) "YearSkinsModel$Land" "water" "[Z" "YearSkinsModel"),
  (Jvm.Cond.fieldLinkNest "YearSkinsModel" (332 : Nat) "YearSkinsModel$Land" "kind" "[I" "YearSkinsModel"),
  (Jvm.Cond.fieldLinkNest "YearSkinsModel" (335 : Nat) "YearSkinsModel$Land" "costs" "[I" "YearSkinsModel"),
  (Jvm.Cond.fieldLinkNest "YearSkinsModel" (337 : Nat) "YearSkinsModel$Land" "warm" "[I" "YearSkinsModel"),
  (Jvm.Cond.fieldLinkNest "YearSkinsModel" (339 : Nat) "YearSkinsModel$Land" "rots" "[I" "YearSkinsModel"),
  (Jvm.Cond.fieldLinkNest "YearSkinsModel" (341 : Nat) "YearSkinsModel$Land" "strong" "[I" "YearSkinsModel"),
  (Jvm.Cond.fieldLinkNest "YearSkinsModel" (361 : Nat) "YearSkinsModel$Land" "core" "[I" "YearSkinsModel"),
  (Jvm.Cond.fieldLinkNest "YearSkinsModel" (364 : Nat) "YearSkinsModel$Land" "stoneOf" "[I" "YearSkinsModel"),
  (Jvm.Cond.fieldLinkNest "YearSkinsModel" (391 : Nat) "YearSkinsModel$Land" "heirHouse" "[I" "YearSkinsModel"),
  (Jvm.Cond.fieldLinkNest "YearSkinsModel" (404 : Nat) "YearSkinsModel$Land" "older" "[I" "YearSkinsModel"),
  (Jvm.Cond.fieldLinkNest "YearSkinsModel" (397 : Nat) "YearSkinsModel$Land" "coin" "[I" "YearSkinsModel"),
  (Jvm.Cond.fieldLinkNest "YearSkinsModel" (399 : Nat) "YearSkinsModel$Land" "smell" "[I" "YearSkinsModel"),
  (Jvm.Cond.fieldLinkNest "YearSkinsModel" (201 : Nat) "YearSkinsModel$Land" "name" "[J" "YearSkinsModel"),
  (Jvm.Cond.fieldLinkNest "YearSkinsModel" (208 : Nat) "YearSkinsModel$Land" "nameSort" "[I" "YearSkinsModel"),
  (Jvm.Cond.fieldLinkNest "YearSkinsModel" (211 : Nat) "YearSkinsModel$Land" "nameNumber" "[I" "YearSkinsModel"),
  (Jvm.Cond.fieldLinkNest "YearSkinsModel" (345 : Nat) "YearSkinsModel$Land" "first" "[I" "YearSkinsModel"),
  (Jvm.Cond.methodLinkNest "YearSkins$House" (17 : Nat) ({ cls := "YearSkins$Skin", name := "<init>", desc := "()V" } : Jvm.MethodName) "YearSkins"),
  (Jvm.Cond.methodLinkNest "YearSkins" (41 : Nat) ({ cls := "YearSkins$Through", name := "<init>", desc := "()V" } : Jvm.MethodName) "YearSkins"),
  (Jvm.Cond.methodLinkNest "YearSkins" (48 : Nat) ({ cls := "YearSkins$Orders", name := "<init>", desc := "()V" } : Jvm.MethodName) "YearSkins"),
  (Jvm.Cond.methodLinkNest "YearSkins$Reader" (159 : Nat) ({ cls := "YearSkins$Land", name := "<init>", desc := "()V" } : Jvm.MethodName) "YearSkins"),
  (Jvm.Cond.methodLinkNest "YearSkins$Reader" (43 : Nat) ({ cls := "YearSkins", name := "within", desc := "(III)Z" } : Jvm.MethodName) "YearSkins"),
  (Jvm.Cond.methodLinkNest "YearSkins$Land" (80 : Nat) ({ cls := "YearSkins", name := "within", desc := "(III)Z" } : Jvm.MethodName) "YearSkins"),
  (Jvm.Cond.methodLinkNest "YearSkins$Orders" (50 : Nat) ({ cls := "YearSkins", name := "has", desc := "(II)Z" } : Jvm.MethodName) "YearSkins"),
  (Jvm.Cond.methodLinkNest "YearSkinsModel" (413 : Nat) ({ cls := "YearSkinsModel$Land", name := "<init>", desc := "()V" } : Jvm.MethodName) "YearSkinsModel"),
  (Jvm.Cond.methodLinkNest "YearSkinsModel$Land" (82 : Nat) ({ cls := "YearSkinsModel", name := "within", desc := "(III)Z" } : Jvm.MethodName) "YearSkinsModel"),
  (Jvm.Cond.castable "YearSkins$Hard" "YearSkins$Stone"),
  (Jvm.Cond.castable "YearSkins$Soft" "YearSkins$Stone"),
  (Jvm.Cond.castable "YearSkins$Wood" "YearSkins$Stone"),
  (Jvm.Cond.declares ({ cls := "YearSkins$Stone", name := "kind", desc := "()I" } : Jvm.MethodName)),
  (Jvm.Cond.declares ({ cls := "java/lang/RuntimeException", name := "<init>", desc := "()V" } : Jvm.MethodName)),
  (Jvm.Cond.declares ({ cls := "java/lang/Exception", name := "<init>", desc := "()V" } : Jvm.MethodName)),
  (Jvm.Cond.declares ({ cls := "java/lang/Throwable", name := "<init>", desc := "()V" } : Jvm.MethodName)),
  (Jvm.Cond.castable "YearSkins$Refused" "YearSkins$Refused"),
  (Jvm.Cond.castable "java/util/NoSuchElementException" "java/util/NoSuchElementException")]
theorem zNest_tbl : ∀ w ∈ zNest, w ∈ lw_tbl :=
  List.forall_mem_cons.mpr ⟨q1897, List.forall_mem_cons.mpr ⟨q1899, List.forall_mem_cons.mpr ⟨q1901, List.forall_mem_cons.mpr ⟨q1902, List.forall_mem_cons.mpr ⟨q1903, List.forall_mem_cons.mpr ⟨q1904, List.forall_mem_cons.mpr ⟨q1905, List.forall_mem_cons.mpr ⟨q1906, List.forall_mem_cons.mpr ⟨q1907, List.forall_mem_cons.mpr ⟨q1908, List.forall_mem_cons.mpr ⟨q1909, List.forall_mem_cons.mpr ⟨q1910, List.forall_mem_cons.mpr ⟨q1912, List.forall_mem_cons.mpr ⟨q1913, List.forall_mem_cons.mpr ⟨q1914, List.forall_mem_cons.mpr ⟨q1916, List.forall_mem_cons.mpr ⟨q1918, List.forall_mem_cons.mpr ⟨q1920, List.forall_mem_cons.mpr ⟨q1922, List.forall_mem_cons.mpr ⟨q1924, List.forall_mem_cons.mpr ⟨q1926, List.forall_mem_cons.mpr ⟨q1928, List.forall_mem_cons.mpr ⟨q1930, List.forall_mem_cons.mpr ⟨q1932, List.forall_mem_cons.mpr ⟨q1934, List.forall_mem_cons.mpr ⟨q1936, List.forall_mem_cons.mpr ⟨q1938, List.forall_mem_cons.mpr ⟨q1940, List.forall_mem_cons.mpr ⟨q1942, List.forall_mem_cons.mpr ⟨q1944, List.forall_mem_cons.mpr ⟨q1946, List.forall_mem_cons.mpr ⟨q261, List.forall_mem_cons.mpr ⟨q419, List.forall_mem_cons.mpr ⟨q432, List.forall_mem_cons.mpr ⟨q545, List.forall_mem_cons.mpr ⟨q679, List.forall_mem_cons.mpr ⟨q1112, List.forall_mem_cons.mpr ⟨q1596, List.forall_mem_cons.mpr ⟨q1892, List.forall_mem_cons.mpr ⟨q2210, List.forall_mem_cons.mpr ⟨q2636, List.forall_mem_cons.mpr ⟨q2637, List.forall_mem_cons.mpr ⟨q2638, List.forall_mem_cons.mpr ⟨q1708, List.forall_mem_cons.mpr ⟨q174, List.forall_mem_cons.mpr ⟨q176, List.forall_mem_cons.mpr ⟨q178, List.forall_mem_cons.mpr ⟨q173, List.forall_mem_cons.mpr ⟨q1737, fun _ h => absurd h List.not_mem_nil⟩⟩⟩⟩⟩⟩⟩⟩⟩⟩⟩⟩⟩⟩⟩⟩⟩⟩⟩⟩⟩⟩⟩⟩⟩⟩⟩⟩⟩⟩⟩⟩⟩⟩⟩⟩⟩⟩⟩⟩⟩⟩⟩⟩⟩⟩⟩⟩⟩
theorem zNest_warm : ∀ w ∈ zNest, w.onTables = true ∧ ∀ s U : State, s.WarmedH U.vm → va_Nw w s → va_Nw w U :=
  List.forall_mem_cons.mpr ⟨⟨rfl, fun _ _ hW h => va_Nw.warmF hW h⟩, List.forall_mem_cons.mpr ⟨⟨rfl, fun _ _ hW h => va_Nw.warmF hW h⟩, List.forall_mem_cons.mpr ⟨⟨rfl, fun _ _ hW h => va_Nw.warmF hW h⟩, List.forall_mem_cons.mpr ⟨⟨rfl, fun _ _ hW h => va_Nw.warmF hW h⟩, List.forall_mem_cons.mpr ⟨⟨rfl, fun _ _ hW h => va_Nw.warmF hW h⟩, List.forall_mem_cons.mpr ⟨⟨rfl, fun _ _ hW h => va_Nw.warmF hW h⟩, List.forall_mem_cons.mpr ⟨⟨rfl, fun _ _ hW h => va_Nw.warmF hW h⟩, List.forall_mem_cons.mpr ⟨⟨rfl, fun _ _ hW h => va_Nw.warmF hW h⟩, List.forall_mem_cons.mpr ⟨⟨rfl, fun _ _ hW h => va_Nw.warmF hW h⟩, List.forall_mem_cons.mpr ⟨⟨rfl, fun _ _ hW h => va_Nw.warmF hW h⟩, List.forall_mem_cons.mpr ⟨⟨rfl, fun _ _ hW h => va_Nw.warmF hW h⟩, List.forall_mem_cons.mpr ⟨⟨rfl, fun _ _ hW h => va_Nw.warmF hW h⟩, List.forall_mem_cons.mpr ⟨⟨rfl, fun _ _ hW h => va_Nw.warmF hW h⟩, List.forall_mem_cons.mpr ⟨⟨rfl, fun _ _ hW h => va_Nw.warmF hW h⟩, List.forall_mem_cons.mpr ⟨⟨rfl, fun _ _ hW h => va_Nw.warmF hW h⟩, List.forall_mem_cons.mpr ⟨⟨rfl, fun _ _ hW h => va_Nw.warmF hW h⟩, List.forall_mem_cons.mpr ⟨⟨rfl, fun _ _ hW h => va_Nw.warmF hW h⟩, List.forall_mem_cons.mpr ⟨⟨rfl, fun _ _ hW h => va_Nw.warmF hW h⟩, List.forall_mem_cons.mpr ⟨⟨rfl, fun _ _ hW h => va_Nw.warmF hW h⟩, List.forall_mem_cons.mpr ⟨⟨rfl, fun _ _ hW h => va_Nw.warmF hW h⟩, List.forall_mem_cons.mpr ⟨⟨rfl, fun _ _ hW h => va_Nw.warmF hW h⟩, List.forall_mem_cons.mpr ⟨⟨rfl, fun _ _ hW h => va_Nw.warmF hW h⟩, List.forall_mem_cons.mpr ⟨⟨rfl, fun _ _ hW h => va_Nw.warmF hW h⟩, List.forall_mem_cons.mpr ⟨⟨rfl, fun _ _ hW h => va_Nw.warmF hW h⟩, List.forall_mem_cons.mpr ⟨⟨rfl, fun _ _ hW h => va_Nw.warmF hW h⟩, List.forall_mem_cons.mpr ⟨⟨rfl, fun _ _ hW h => va_Nw.warmF hW h⟩, List.forall_mem_cons.mpr ⟨⟨rfl, fun _ _ hW h => va_Nw.warmF hW h⟩, List.forall_mem_cons.mpr ⟨⟨rfl, fun _ _ hW h => va_Nw.warmF hW h⟩, List.forall_mem_cons.mpr ⟨⟨rfl, fun _ _ hW h => va_Nw.warmF hW h⟩, List.forall_mem_cons.mpr ⟨⟨rfl, fun _ _ hW h => va_Nw.warmF hW h⟩, List.forall_mem_cons.mpr ⟨⟨rfl, fun _ _ hW h => va_Nw.warmF hW h⟩, List.forall_mem_cons.mpr ⟨⟨rfl, fun _ _ hW h => va_Nw.warmM hW h⟩, List.forall_mem_cons.mpr ⟨⟨rfl, fun _ _ hW h => va_Nw.warmM hW h⟩, List.forall_mem_cons.mpr ⟨⟨rfl, fun _ _ hW h => va_Nw.warmM hW h⟩, List.forall_mem_cons.mpr ⟨⟨rfl, fun _ _ hW h => va_Nw.warmM hW h⟩, List.forall_mem_cons.mpr ⟨⟨rfl, fun _ _ hW h => va_Nw.warmM hW h⟩, List.forall_mem_cons.mpr ⟨⟨rfl, fun _ _ hW h => va_Nw.warmM hW h⟩, List.forall_mem_cons.mpr ⟨⟨rfl, fun _ _ hW h => va_Nw.warmM hW h⟩, List.forall_mem_cons.mpr ⟨⟨rfl, fun _ _ hW h => va_Nw.warmM hW h⟩, List.forall_mem_cons.mpr ⟨⟨rfl, fun _ _ hW h => va_Nw.warmM hW h⟩, List.forall_mem_cons.mpr ⟨⟨rfl, fun _ _ hW h => va_Nw.warmC hW h⟩, List.forall_mem_cons.mpr ⟨⟨rfl, fun _ _ hW h => va_Nw.warmC hW h⟩, List.forall_mem_cons.mpr ⟨⟨rfl, fun _ _ hW h => va_Nw.warmC hW h⟩, List.forall_mem_cons.mpr ⟨⟨rfl, fun _ _ hW h => va_Nw.warmD hW h⟩, List.forall_mem_cons.mpr ⟨⟨rfl, fun _ _ hW h => va_Nw.warmD hW h⟩, List.forall_mem_cons.mpr ⟨⟨rfl, fun _ _ hW h => va_Nw.warmD hW h⟩, List.forall_mem_cons.mpr ⟨⟨rfl, fun _ _ hW h => va_Nw.warmD hW h⟩, List.forall_mem_cons.mpr ⟨⟨rfl, fun _ _ hW h => va_Nw.warmC hW h⟩, List.forall_mem_cons.mpr ⟨⟨rfl, fun _ _ hW h => va_Nw.warmC hW h⟩, fun _ h => absurd h List.not_mem_nil⟩⟩⟩⟩⟩⟩⟩⟩⟩⟩⟩⟩⟩⟩⟩⟩⟩⟩⟩⟩⟩⟩⟩⟩⟩⟩⟩⟩⟩⟩⟩⟩⟩⟩⟩⟩⟩⟩⟩⟩⟩⟩⟩⟩⟩⟩⟩⟩⟩
theorem zn1897 : (Jvm.Cond.fieldLinkNest "YearSkinsModel" (160 : Nat) "YearSkinsModel$Land" "wide" "I" "YearSkinsModel") ∈ zNest := List.mem_of_getElem? (i := 0) rfl
theorem zn1899 : (Jvm.Cond.fieldLinkNest "YearSkinsModel" (168 : Nat) "YearSkinsModel$Land" "high" "I" "YearSkinsModel") ∈ zNest := List.mem_of_getElem? (i := 1) rfl
theorem zn1901 : (Jvm.Cond.fieldLinkNest "YearSkinsModel" (223 : Nat) "YearSkinsModel$Land" "year" "I" "YearSkinsModel") ∈ zNest := List.mem_of_getElem? (i := 2) rfl
theorem zn1902 : (Jvm.Cond.fieldLinkNest "YearSkinsModel" (296 : Nat) "YearSkinsModel$Land" "births" "I" "YearSkinsModel") ∈ zNest := List.mem_of_getElem? (i := 3) rfl
theorem zn1903 : (Jvm.Cond.fieldLinkNest "YearSkinsModel" (298 : Nat) "YearSkinsModel$Land" "fire" "I" "YearSkinsModel") ∈ zNest := List.mem_of_getElem? (i := 4) rfl
theorem zn1904 : (Jvm.Cond.fieldLinkNest "YearSkinsModel" (300 : Nat) "YearSkinsModel$Land" "earns" "I" "YearSkinsModel") ∈ zNest := List.mem_of_getElem? (i := 5) rfl
theorem zn1905 : (Jvm.Cond.fieldLinkNest "YearSkinsModel" (302 : Nat) "YearSkinsModel$Land" "waters" "I" "YearSkinsModel") ∈ zNest := List.mem_of_getElem? (i := 6) rfl
theorem zn1906 : (Jvm.Cond.fieldLinkNest "YearSkinsModel" (226 : Nat) "YearSkinsModel$Land" "stones" "I" "YearSkinsModel") ∈ zNest := List.mem_of_getElem? (i := 7) rfl
theorem zn1907 : (Jvm.Cond.fieldLinkNest "YearSkinsModel" (229 : Nat) "YearSkinsModel$Land" "houses" "I" "YearSkinsModel") ∈ zNest := List.mem_of_getElem? (i := 8) rfl
theorem zn1908 : (Jvm.Cond.fieldLinkNest "YearSkinsModel" (388 : Nat) "YearSkinsModel$Land" "heirs" "I" "YearSkinsModel") ∈ zNest := List.mem_of_getElem? (i := 9) rfl
theorem zn1909 : (Jvm.Cond.fieldLinkNest "YearSkinsModel" (394 : Nat) "YearSkinsModel$Land" "walls" "I" "YearSkinsModel") ∈ zNest := List.mem_of_getElem? (i := 10) rfl
theorem zn1910 : (Jvm.Cond.fieldLinkNest "YearSkinsModel" (401 : Nat) "YearSkinsModel$Land" "olders" "I" "YearSkinsModel") ∈ zNest := List.mem_of_getElem? (i := 11) rfl
theorem zn1912 : (Jvm.Cond.fieldLinkNest "YearSkinsModel" (205 : Nat) "YearSkinsModel$Land" "names" "I" "YearSkinsModel") ∈ zNest := List.mem_of_getElem? (i := 12) rfl
theorem zn1913 : (Jvm.Cond.fieldLinkNest "YearSkinsModel" (281 : Nat) "YearSkinsModel$Land" "far" "Z" "YearSkinsModel") ∈ zNest := List.mem_of_getElem? (i := 13) rfl
theorem zn1914 : (Jvm.Cond.fieldLinkNest "YearSkinsModel" (284 : Nat) "YearSkinsModel$Land" "share" "Z" "YearSkinsModel") ∈ zNest := List.mem_of_getElem? (i := 14) rfl
theorem zn1916 : (Jvm.Cond.fieldLinkNest "YearSkinsModel" (308 : Nat) "YearSkinsModel$Land" "water" "[Z" "YearSkinsModel") ∈ zNest := List.mem_of_getElem? (i := 15) rfl
theorem zn1918 : (Jvm.Cond.fieldLinkNest "YearSkinsModel" (332 : Nat) "YearSkinsModel$Land" "kind" "[I" "YearSkinsModel") ∈ zNest := List.mem_of_getElem? (i := 16) rfl
theorem zn1920 : (Jvm.Cond.fieldLinkNest "YearSkinsModel" (335 : Nat) "YearSkinsModel$Land" "costs" "[I" "YearSkinsModel") ∈ zNest := List.mem_of_getElem? (i := 17) rfl
theorem zn1922 : (Jvm.Cond.fieldLinkNest "YearSkinsModel" (337 : Nat) "YearSkinsModel$Land" "warm" "[I" "YearSkinsModel") ∈ zNest := List.mem_of_getElem? (i := 18) rfl
theorem zn1924 : (Jvm.Cond.fieldLinkNest "YearSkinsModel" (339 : Nat) "YearSkinsModel$Land" "rots" "[I" "YearSkinsModel") ∈ zNest := List.mem_of_getElem? (i := 19) rfl
theorem zn1926 : (Jvm.Cond.fieldLinkNest "YearSkinsModel" (341 : Nat) "YearSkinsModel$Land" "strong" "[I" "YearSkinsModel") ∈ zNest := List.mem_of_getElem? (i := 20) rfl
theorem zn1928 : (Jvm.Cond.fieldLinkNest "YearSkinsModel" (361 : Nat) "YearSkinsModel$Land" "core" "[I" "YearSkinsModel") ∈ zNest := List.mem_of_getElem? (i := 21) rfl
theorem zn1930 : (Jvm.Cond.fieldLinkNest "YearSkinsModel" (364 : Nat) "YearSkinsModel$Land" "stoneOf" "[I" "YearSkinsModel") ∈ zNest := List.mem_of_getElem? (i := 22) rfl
theorem zn1932 : (Jvm.Cond.fieldLinkNest "YearSkinsModel" (391 : Nat) "YearSkinsModel$Land" "heirHouse" "[I" "YearSkinsModel") ∈ zNest := List.mem_of_getElem? (i := 23) rfl
theorem zn1934 : (Jvm.Cond.fieldLinkNest "YearSkinsModel" (404 : Nat) "YearSkinsModel$Land" "older" "[I" "YearSkinsModel") ∈ zNest := List.mem_of_getElem? (i := 24) rfl
theorem zn1936 : (Jvm.Cond.fieldLinkNest "YearSkinsModel" (397 : Nat) "YearSkinsModel$Land" "coin" "[I" "YearSkinsModel") ∈ zNest := List.mem_of_getElem? (i := 25) rfl
theorem zn1938 : (Jvm.Cond.fieldLinkNest "YearSkinsModel" (399 : Nat) "YearSkinsModel$Land" "smell" "[I" "YearSkinsModel") ∈ zNest := List.mem_of_getElem? (i := 26) rfl
theorem zn1940 : (Jvm.Cond.fieldLinkNest "YearSkinsModel" (201 : Nat) "YearSkinsModel$Land" "name" "[J" "YearSkinsModel") ∈ zNest := List.mem_of_getElem? (i := 27) rfl
theorem zn1942 : (Jvm.Cond.fieldLinkNest "YearSkinsModel" (208 : Nat) "YearSkinsModel$Land" "nameSort" "[I" "YearSkinsModel") ∈ zNest := List.mem_of_getElem? (i := 28) rfl
theorem zn1944 : (Jvm.Cond.fieldLinkNest "YearSkinsModel" (211 : Nat) "YearSkinsModel$Land" "nameNumber" "[I" "YearSkinsModel") ∈ zNest := List.mem_of_getElem? (i := 29) rfl
theorem zn1946 : (Jvm.Cond.fieldLinkNest "YearSkinsModel" (345 : Nat) "YearSkinsModel$Land" "first" "[I" "YearSkinsModel") ∈ zNest := List.mem_of_getElem? (i := 30) rfl
theorem zn261 : (Jvm.Cond.methodLinkNest "YearSkins$House" (17 : Nat) ({ cls := "YearSkins$Skin", name := "<init>", desc := "()V" } : Jvm.MethodName) "YearSkins") ∈ zNest := List.mem_of_getElem? (i := 31) rfl
theorem zn419 : (Jvm.Cond.methodLinkNest "YearSkins" (41 : Nat) ({ cls := "YearSkins$Through", name := "<init>", desc := "()V" } : Jvm.MethodName) "YearSkins") ∈ zNest := List.mem_of_getElem? (i := 32) rfl
theorem zn432 : (Jvm.Cond.methodLinkNest "YearSkins" (48 : Nat) ({ cls := "YearSkins$Orders", name := "<init>", desc := "()V" } : Jvm.MethodName) "YearSkins") ∈ zNest := List.mem_of_getElem? (i := 33) rfl
theorem zn545 : (Jvm.Cond.methodLinkNest "YearSkins$Reader" (159 : Nat) ({ cls := "YearSkins$Land", name := "<init>", desc := "()V" } : Jvm.MethodName) "YearSkins") ∈ zNest := List.mem_of_getElem? (i := 34) rfl
theorem zn679 : (Jvm.Cond.methodLinkNest "YearSkins$Reader" (43 : Nat) ({ cls := "YearSkins", name := "within", desc := "(III)Z" } : Jvm.MethodName) "YearSkins") ∈ zNest := List.mem_of_getElem? (i := 35) rfl
theorem zn1112 : (Jvm.Cond.methodLinkNest "YearSkins$Land" (80 : Nat) ({ cls := "YearSkins", name := "within", desc := "(III)Z" } : Jvm.MethodName) "YearSkins") ∈ zNest := List.mem_of_getElem? (i := 36) rfl
theorem zn1596 : (Jvm.Cond.methodLinkNest "YearSkins$Orders" (50 : Nat) ({ cls := "YearSkins", name := "has", desc := "(II)Z" } : Jvm.MethodName) "YearSkins") ∈ zNest := List.mem_of_getElem? (i := 37) rfl
theorem zn1892 : (Jvm.Cond.methodLinkNest "YearSkinsModel" (413 : Nat) ({ cls := "YearSkinsModel$Land", name := "<init>", desc := "()V" } : Jvm.MethodName) "YearSkinsModel") ∈ zNest := List.mem_of_getElem? (i := 38) rfl
theorem zn2210 : (Jvm.Cond.methodLinkNest "YearSkinsModel$Land" (82 : Nat) ({ cls := "YearSkinsModel", name := "within", desc := "(III)Z" } : Jvm.MethodName) "YearSkinsModel") ∈ zNest := List.mem_of_getElem? (i := 39) rfl
theorem zn2636 : (Jvm.Cond.castable "YearSkins$Hard" "YearSkins$Stone") ∈ zNest := List.mem_of_getElem? (i := 40) rfl
theorem zn2637 : (Jvm.Cond.castable "YearSkins$Soft" "YearSkins$Stone") ∈ zNest := List.mem_of_getElem? (i := 41) rfl
theorem zn2638 : (Jvm.Cond.castable "YearSkins$Wood" "YearSkins$Stone") ∈ zNest := List.mem_of_getElem? (i := 42) rfl
theorem zn1708 : (Jvm.Cond.declares ({ cls := "YearSkins$Stone", name := "kind", desc := "()I" } : Jvm.MethodName)) ∈ zNest := List.mem_of_getElem? (i := 43) rfl
theorem zn174 : (Jvm.Cond.declares ({ cls := "java/lang/RuntimeException", name := "<init>", desc := "()V" } : Jvm.MethodName)) ∈ zNest := List.mem_of_getElem? (i := 44) rfl
theorem zn176 : (Jvm.Cond.declares ({ cls := "java/lang/Exception", name := "<init>", desc := "()V" } : Jvm.MethodName)) ∈ zNest := List.mem_of_getElem? (i := 45) rfl
theorem zn178 : (Jvm.Cond.declares ({ cls := "java/lang/Throwable", name := "<init>", desc := "()V" } : Jvm.MethodName)) ∈ zNest := List.mem_of_getElem? (i := 46) rfl
theorem zn173 : (Jvm.Cond.castable "YearSkins$Refused" "YearSkins$Refused") ∈ zNest := List.mem_of_getElem? (i := 47) rfl
theorem zn1737 : (Jvm.Cond.castable "java/util/NoSuchElementException" "java/util/NoSuchElementException") ∈ zNest := List.mem_of_getElem? (i := 48) rfl
def zAO : List String := ["YearSkins$House", "YearSkins$Skin", "YearSkins$Village", "YearSkins$Stone", "YearSkins$Site", "YearSkins$Heir", "YearSkins$Wall"]
theorem za_House : "YearSkins$House" ∈ zAO := List.mem_of_getElem? (i := 0) rfl
theorem za_Skin : "YearSkins$Skin" ∈ zAO := List.mem_of_getElem? (i := 1) rfl
theorem za_Village : "YearSkins$Village" ∈ zAO := List.mem_of_getElem? (i := 2) rfl
theorem za_Stone : "YearSkins$Stone" ∈ zAO := List.mem_of_getElem? (i := 3) rfl
theorem za_Site : "YearSkins$Site" ∈ zAO := List.mem_of_getElem? (i := 4) rfl
theorem za_Heir : "YearSkins$Heir" ∈ zAO := List.mem_of_getElem? (i := 5) rfl
theorem za_Wall : "YearSkins$Wall" ∈ zAO := List.mem_of_getElem? (i := 6) rfl
theorem zAO_tbl : ∀ C ∈ zAO, Cond.arrayOver (.object C) ∈ lw_tbl :=
  List.forall_mem_cons.mpr ⟨q252, List.forall_mem_cons.mpr ⟨q259, List.forall_mem_cons.mpr ⟨q459, List.forall_mem_cons.mpr ⟨q550, List.forall_mem_cons.mpr ⟨q552, List.forall_mem_cons.mpr ⟨q554, List.forall_mem_cons.mpr ⟨q556, fun _ h => absurd h List.not_mem_nil⟩⟩⟩⟩⟩⟩⟩
def zNc : List (String × String) := [("YearSkins$Hard", "YearSkins$Site"), ("YearSkins$Hard", "YearSkins$Wall"), ("YearSkins$Soft", "YearSkins$Site"), ("YearSkins$Soft", "YearSkins$Wall"), ("YearSkins$Wood", "YearSkins$Site"), ("YearSkins$Wood", "YearSkins$Wall"), ("YearSkins$Site", "YearSkins$Stone"), ("YearSkins$Site", "YearSkins$Wall"), ("YearSkins$Heir", "YearSkins$Stone"), ("YearSkins$Heir", "YearSkins$Site"), ("YearSkins$Heir", "YearSkins$Wall"), ("YearSkins$Wall", "YearSkins$Stone"), ("YearSkins$Wall", "YearSkins$Site")]
theorem zc_Hard_Site : ("YearSkins$Hard", "YearSkins$Site") ∈ zNc := List.mem_of_getElem? (i := 0) rfl
theorem zc_Hard_Wall : ("YearSkins$Hard", "YearSkins$Wall") ∈ zNc := List.mem_of_getElem? (i := 1) rfl
theorem zc_Soft_Site : ("YearSkins$Soft", "YearSkins$Site") ∈ zNc := List.mem_of_getElem? (i := 2) rfl
theorem zc_Soft_Wall : ("YearSkins$Soft", "YearSkins$Wall") ∈ zNc := List.mem_of_getElem? (i := 3) rfl
theorem zc_Wood_Site : ("YearSkins$Wood", "YearSkins$Site") ∈ zNc := List.mem_of_getElem? (i := 4) rfl
theorem zc_Wood_Wall : ("YearSkins$Wood", "YearSkins$Wall") ∈ zNc := List.mem_of_getElem? (i := 5) rfl
theorem zc_Site_Stone : ("YearSkins$Site", "YearSkins$Stone") ∈ zNc := List.mem_of_getElem? (i := 6) rfl
theorem zc_Site_Wall : ("YearSkins$Site", "YearSkins$Wall") ∈ zNc := List.mem_of_getElem? (i := 7) rfl
theorem zc_Heir_Stone : ("YearSkins$Heir", "YearSkins$Stone") ∈ zNc := List.mem_of_getElem? (i := 8) rfl
theorem zc_Heir_Site : ("YearSkins$Heir", "YearSkins$Site") ∈ zNc := List.mem_of_getElem? (i := 9) rfl
theorem zc_Heir_Wall : ("YearSkins$Heir", "YearSkins$Wall") ∈ zNc := List.mem_of_getElem? (i := 10) rfl
theorem zc_Wall_Stone : ("YearSkins$Wall", "YearSkins$Stone") ∈ zNc := List.mem_of_getElem? (i := 11) rfl
theorem zc_Wall_Site : ("YearSkins$Wall", "YearSkins$Site") ∈ zNc := List.mem_of_getElem? (i := 12) rfl
/-! the literals: 0 , 1 land, 2 years, 3 water, 4 stone, 5 house, 6 skin, 7 heir, 8 wall, 9 older, 10 coin, 11 smell, 12 wide, 13 high, 14 doors, 15 far, 16 near, 17 share, 18 yes, 19 no, 20 births, 21 fire, 22 earns, 23 hard, 24 soft, 25 wood, 26 costs, 27 warm, 28 rots, 29 strong, 30 at, 31 of, 32 family, 33 gold, 34 north, 35 east, 36 south, 37 west, 38 lock -/
def zStr : List (String × Nat × String × Nat) := [
  ("java/lang/String", 7, "", 0),
  ("YearSkins$Reader", 66, "", 0),
  ("YearSkins$Reader", 97, "land", 1),
  ("YearSkins$Reader", 99, "years", 2),
  ("YearSkins$Reader", 101, "water", 3),
  ("YearSkins$Reader", 103, "stone", 4),
  ("YearSkins$Reader", 105, "house", 5),
  ("YearSkins$Reader", 107, "skin", 6),
  ("YearSkins$Reader", 109, "heir", 7),
  ("YearSkins$Reader", 111, "wall", 8),
  ("YearSkins$Reader", 113, "older", 9),
  ("YearSkins$Reader", 115, "coin", 10),
  ("YearSkins$Reader", 117, "smell", 11),
  ("YearSkins$Reader", 205, "wide", 12),
  ("YearSkins$Reader", 210, "high", 13),
  ("YearSkins$Reader", 214, "doors", 14),
  ("YearSkins$Reader", 216, "far", 15),
  ("YearSkins$Reader", 220, "near", 16),
  ("YearSkins$Reader", 222, "share", 17),
  ("YearSkins$Reader", 152, "yes", 18),
  ("YearSkins$Reader", 154, "no", 19),
  ("YearSkins$Reader", 234, "births", 20),
  ("YearSkins$Reader", 238, "fire", 21),
  ("YearSkins$Reader", 242, "earns", 22),
  ("YearSkins$Reader", 263, "hard", 23),
  ("YearSkins$Reader", 270, "soft", 24),
  ("YearSkins$Reader", 275, "wood", 25),
  ("YearSkins$Reader", 288, "costs", 26),
  ("YearSkins$Reader", 292, "warm", 27),
  ("YearSkins$Reader", 296, "rots", 28),
  ("YearSkins$Reader", 300, "strong", 29),
  ("YearSkins$Reader", 309, "at", 30),
  ("YearSkins$Reader", 319, "of", 31),
  ("YearSkins$Reader", 327, "family", 32),
  ("YearSkins$Reader", 329, "gold", 33),
  ("YearSkins$Reader", 356, "north", 34),
  ("YearSkins$Reader", 358, "east", 35),
  ("YearSkins$Reader", 360, "south", 36),
  ("YearSkins$Reader", 362, "west", 37),
  ("YearSkins$Reader", 364, "lock", 38),
  ("YearSkinsModel", 171, "land", 1),
  ("YearSkinsModel", 263, "wide", 12),
  ("YearSkinsModel", 268, "high", 13),
  ("YearSkinsModel", 269, "doors", 14),
  ("YearSkinsModel", 271, "far", 15),
  ("YearSkinsModel", 273, "near", 16),
  ("YearSkinsModel", 275, "share", 17),
  ("YearSkinsModel", 277, "yes", 18),
  ("YearSkinsModel", 279, "no", 19),
  ("YearSkinsModel", 173, "years", 2),
  ("YearSkinsModel", 290, "births", 20),
  ("YearSkinsModel", 292, "fire", 21),
  ("YearSkinsModel", 294, "earns", 22),
  ("YearSkinsModel", 175, "water", 3),
  ("YearSkinsModel", 177, "stone", 4),
  ("YearSkinsModel", 179, "house", 5),
  ("YearSkinsModel", 181, "skin", 6),
  ("YearSkinsModel", 183, "heir", 7),
  ("YearSkinsModel", 185, "wall", 8),
  ("YearSkinsModel", 187, "older", 9),
  ("YearSkinsModel", 189, "coin", 10),
  ("YearSkinsModel", 191, "smell", 11),
  ("YearSkinsModel", 315, "hard", 23),
  ("YearSkinsModel", 317, "soft", 24),
  ("YearSkinsModel", 319, "wood", 25),
  ("YearSkinsModel", 321, "costs", 26),
  ("YearSkinsModel", 323, "warm", 27),
  ("YearSkinsModel", 325, "rots", 28),
  ("YearSkinsModel", 327, "strong", 29),
  ("YearSkinsModel", 343, "at", 30),
  ("YearSkinsModel", 352, "of", 31),
  ("YearSkinsModel", 357, "family", 32),
  ("YearSkinsModel", 359, "gold", 33),
  ("YearSkinsModel", 367, "north", 34),
  ("YearSkinsModel", 369, "east", 35),
  ("YearSkinsModel", 371, "south", 36),
  ("YearSkinsModel", 373, "west", 37),
  ("YearSkinsModel", 382, "lock", 38)]
theorem zs700 : ("java/lang/String", 7, "", 0) ∈ zStr := List.mem_of_getElem? (i := 0) rfl
theorem zs758 : ("YearSkins$Reader", 66, "", 0) ∈ zStr := List.mem_of_getElem? (i := 1) rfl
theorem zs827 : ("YearSkins$Reader", 97, "land", 1) ∈ zStr := List.mem_of_getElem? (i := 2) rfl
theorem zs836 : ("YearSkins$Reader", 99, "years", 2) ∈ zStr := List.mem_of_getElem? (i := 3) rfl
theorem zs837 : ("YearSkins$Reader", 101, "water", 3) ∈ zStr := List.mem_of_getElem? (i := 4) rfl
theorem zs838 : ("YearSkins$Reader", 103, "stone", 4) ∈ zStr := List.mem_of_getElem? (i := 5) rfl
theorem zs839 : ("YearSkins$Reader", 105, "house", 5) ∈ zStr := List.mem_of_getElem? (i := 6) rfl
theorem zs840 : ("YearSkins$Reader", 107, "skin", 6) ∈ zStr := List.mem_of_getElem? (i := 7) rfl
theorem zs841 : ("YearSkins$Reader", 109, "heir", 7) ∈ zStr := List.mem_of_getElem? (i := 8) rfl
theorem zs842 : ("YearSkins$Reader", 111, "wall", 8) ∈ zStr := List.mem_of_getElem? (i := 9) rfl
theorem zs843 : ("YearSkins$Reader", 113, "older", 9) ∈ zStr := List.mem_of_getElem? (i := 10) rfl
theorem zs844 : ("YearSkins$Reader", 115, "coin", 10) ∈ zStr := List.mem_of_getElem? (i := 11) rfl
theorem zs845 : ("YearSkins$Reader", 117, "smell", 11) ∈ zStr := List.mem_of_getElem? (i := 12) rfl
theorem zs850 : ("YearSkins$Reader", 205, "wide", 12) ∈ zStr := List.mem_of_getElem? (i := 13) rfl
theorem zs871 : ("YearSkins$Reader", 210, "high", 13) ∈ zStr := List.mem_of_getElem? (i := 14) rfl
theorem zs872 : ("YearSkins$Reader", 214, "doors", 14) ∈ zStr := List.mem_of_getElem? (i := 15) rfl
theorem zs873 : ("YearSkins$Reader", 216, "far", 15) ∈ zStr := List.mem_of_getElem? (i := 16) rfl
theorem zs874 : ("YearSkins$Reader", 220, "near", 16) ∈ zStr := List.mem_of_getElem? (i := 17) rfl
theorem zs875 : ("YearSkins$Reader", 222, "share", 17) ∈ zStr := List.mem_of_getElem? (i := 18) rfl
theorem zs880 : ("YearSkins$Reader", 152, "yes", 18) ∈ zStr := List.mem_of_getElem? (i := 19) rfl
theorem zs881 : ("YearSkins$Reader", 154, "no", 19) ∈ zStr := List.mem_of_getElem? (i := 20) rfl
theorem zs890 : ("YearSkins$Reader", 234, "births", 20) ∈ zStr := List.mem_of_getElem? (i := 21) rfl
theorem zs891 : ("YearSkins$Reader", 238, "fire", 21) ∈ zStr := List.mem_of_getElem? (i := 22) rfl
theorem zs892 : ("YearSkins$Reader", 242, "earns", 22) ∈ zStr := List.mem_of_getElem? (i := 23) rfl
theorem zs929 : ("YearSkins$Reader", 263, "hard", 23) ∈ zStr := List.mem_of_getElem? (i := 24) rfl
theorem zs977 : ("YearSkins$Reader", 270, "soft", 24) ∈ zStr := List.mem_of_getElem? (i := 25) rfl
theorem zs991 : ("YearSkins$Reader", 275, "wood", 25) ∈ zStr := List.mem_of_getElem? (i := 26) rfl
theorem zs1005 : ("YearSkins$Reader", 288, "costs", 26) ∈ zStr := List.mem_of_getElem? (i := 27) rfl
theorem zs1006 : ("YearSkins$Reader", 292, "warm", 27) ∈ zStr := List.mem_of_getElem? (i := 28) rfl
theorem zs1007 : ("YearSkins$Reader", 296, "rots", 28) ∈ zStr := List.mem_of_getElem? (i := 29) rfl
theorem zs1008 : ("YearSkins$Reader", 300, "strong", 29) ∈ zStr := List.mem_of_getElem? (i := 30) rfl
theorem zs1039 : ("YearSkins$Reader", 309, "at", 30) ∈ zStr := List.mem_of_getElem? (i := 31) rfl
theorem zs1058 : ("YearSkins$Reader", 319, "of", 31) ∈ zStr := List.mem_of_getElem? (i := 32) rfl
theorem zs1068 : ("YearSkins$Reader", 327, "family", 32) ∈ zStr := List.mem_of_getElem? (i := 33) rfl
theorem zs1069 : ("YearSkins$Reader", 329, "gold", 33) ∈ zStr := List.mem_of_getElem? (i := 34) rfl
theorem zs1118 : ("YearSkins$Reader", 356, "north", 34) ∈ zStr := List.mem_of_getElem? (i := 35) rfl
theorem zs1119 : ("YearSkins$Reader", 358, "east", 35) ∈ zStr := List.mem_of_getElem? (i := 36) rfl
theorem zs1120 : ("YearSkins$Reader", 360, "south", 36) ∈ zStr := List.mem_of_getElem? (i := 37) rfl
theorem zs1121 : ("YearSkins$Reader", 362, "west", 37) ∈ zStr := List.mem_of_getElem? (i := 38) rfl
theorem zs1122 : ("YearSkins$Reader", 364, "lock", 38) ∈ zStr := List.mem_of_getElem? (i := 39) rfl
theorem zs2035 : ("YearSkinsModel", 171, "land", 1) ∈ zStr := List.mem_of_getElem? (i := 40) rfl
theorem zs2079 : ("YearSkinsModel", 263, "wide", 12) ∈ zStr := List.mem_of_getElem? (i := 41) rfl
theorem zs2099 : ("YearSkinsModel", 268, "high", 13) ∈ zStr := List.mem_of_getElem? (i := 42) rfl
theorem zs2100 : ("YearSkinsModel", 269, "doors", 14) ∈ zStr := List.mem_of_getElem? (i := 43) rfl
theorem zs2101 : ("YearSkinsModel", 271, "far", 15) ∈ zStr := List.mem_of_getElem? (i := 44) rfl
theorem zs2102 : ("YearSkinsModel", 273, "near", 16) ∈ zStr := List.mem_of_getElem? (i := 45) rfl
theorem zs2103 : ("YearSkinsModel", 275, "share", 17) ∈ zStr := List.mem_of_getElem? (i := 46) rfl
theorem zs2104 : ("YearSkinsModel", 277, "yes", 18) ∈ zStr := List.mem_of_getElem? (i := 47) rfl
theorem zs2105 : ("YearSkinsModel", 279, "no", 19) ∈ zStr := List.mem_of_getElem? (i := 48) rfl
theorem zs2106 : ("YearSkinsModel", 173, "years", 2) ∈ zStr := List.mem_of_getElem? (i := 49) rfl
theorem zs2115 : ("YearSkinsModel", 290, "births", 20) ∈ zStr := List.mem_of_getElem? (i := 50) rfl
theorem zs2116 : ("YearSkinsModel", 292, "fire", 21) ∈ zStr := List.mem_of_getElem? (i := 51) rfl
theorem zs2117 : ("YearSkinsModel", 294, "earns", 22) ∈ zStr := List.mem_of_getElem? (i := 52) rfl
theorem zs2118 : ("YearSkinsModel", 175, "water", 3) ∈ zStr := List.mem_of_getElem? (i := 53) rfl
theorem zs2131 : ("YearSkinsModel", 177, "stone", 4) ∈ zStr := List.mem_of_getElem? (i := 54) rfl
theorem zs2144 : ("YearSkinsModel", 179, "house", 5) ∈ zStr := List.mem_of_getElem? (i := 55) rfl
theorem zs2145 : ("YearSkinsModel", 181, "skin", 6) ∈ zStr := List.mem_of_getElem? (i := 56) rfl
theorem zs2146 : ("YearSkinsModel", 183, "heir", 7) ∈ zStr := List.mem_of_getElem? (i := 57) rfl
theorem zs2147 : ("YearSkinsModel", 185, "wall", 8) ∈ zStr := List.mem_of_getElem? (i := 58) rfl
theorem zs2148 : ("YearSkinsModel", 187, "older", 9) ∈ zStr := List.mem_of_getElem? (i := 59) rfl
theorem zs2149 : ("YearSkinsModel", 189, "coin", 10) ∈ zStr := List.mem_of_getElem? (i := 60) rfl
theorem zs2150 : ("YearSkinsModel", 191, "smell", 11) ∈ zStr := List.mem_of_getElem? (i := 61) rfl
theorem zs2155 : ("YearSkinsModel", 315, "hard", 23) ∈ zStr := List.mem_of_getElem? (i := 62) rfl
theorem zs2156 : ("YearSkinsModel", 317, "soft", 24) ∈ zStr := List.mem_of_getElem? (i := 63) rfl
theorem zs2157 : ("YearSkinsModel", 319, "wood", 25) ∈ zStr := List.mem_of_getElem? (i := 64) rfl
theorem zs2158 : ("YearSkinsModel", 321, "costs", 26) ∈ zStr := List.mem_of_getElem? (i := 65) rfl
theorem zs2159 : ("YearSkinsModel", 323, "warm", 27) ∈ zStr := List.mem_of_getElem? (i := 66) rfl
theorem zs2160 : ("YearSkinsModel", 325, "rots", 28) ∈ zStr := List.mem_of_getElem? (i := 67) rfl
theorem zs2161 : ("YearSkinsModel", 327, "strong", 29) ∈ zStr := List.mem_of_getElem? (i := 68) rfl
theorem zs2170 : ("YearSkinsModel", 343, "at", 30) ∈ zStr := List.mem_of_getElem? (i := 69) rfl
theorem zs2186 : ("YearSkinsModel", 352, "of", 31) ∈ zStr := List.mem_of_getElem? (i := 70) rfl
theorem zs2195 : ("YearSkinsModel", 357, "family", 32) ∈ zStr := List.mem_of_getElem? (i := 71) rfl
theorem zs2196 : ("YearSkinsModel", 359, "gold", 33) ∈ zStr := List.mem_of_getElem? (i := 72) rfl
theorem zs2215 : ("YearSkinsModel", 367, "north", 34) ∈ zStr := List.mem_of_getElem? (i := 73) rfl
theorem zs2216 : ("YearSkinsModel", 369, "east", 35) ∈ zStr := List.mem_of_getElem? (i := 74) rfl
theorem zs2217 : ("YearSkinsModel", 371, "south", 36) ∈ zStr := List.mem_of_getElem? (i := 75) rfl
theorem zs2218 : ("YearSkinsModel", 373, "west", 37) ∈ zStr := List.mem_of_getElem? (i := 76) rfl
theorem zs2219 : ("YearSkinsModel", 382, "lock", 38) ∈ zStr := List.mem_of_getElem? (i := 77) rfl
def zSt : List (String × String × String × Int32) := [("java/lang/String", "COMPACT_STRINGS", "Z", 1), ("java/lang/StringUTF16", "$assertionsDisabled", "Z", 1), ("java/lang/StringUTF16", "HI_BYTE_SHIFT", "I", 0), ("java/lang/StringUTF16", "LO_BYTE_SHIFT", "I", 8)]
def zStR : List (String × String × String × Nat) := [("jdk/internal/util/Preconditions", "SIOOBE_FORMATTER", "Ljava/util/function/BiFunction;", 0), ("java/lang/Throwable", "UNASSIGNED_STACK", "[Ljava/lang/StackTraceElement;", 1), ("java/lang/Throwable", "SUPPRESSED_SENTINEL", "Ljava/util/List;", 2)]
def zSx : List (String × String × String) := [("java/lang/Throwable", "UNASSIGNED_STACK", "[Ljava/lang/StackTraceElement;"), ("java/lang/Throwable", "SUPPRESSED_SENTINEL", "Ljava/util/List;")]
theorem zt0 : ("java/lang/String", "COMPACT_STRINGS", "Z", 1) ∈ zSt := List.mem_of_getElem? (i := 0) rfl
theorem zt1 : ("java/lang/StringUTF16", "$assertionsDisabled", "Z", 1) ∈ zSt := List.mem_of_getElem? (i := 1) rfl
theorem zt2 : ("java/lang/StringUTF16", "HI_BYTE_SHIFT", "I", 0) ∈ zSt := List.mem_of_getElem? (i := 2) rfl
theorem zt3 : ("java/lang/StringUTF16", "LO_BYTE_SHIFT", "I", 8) ∈ zSt := List.mem_of_getElem? (i := 3) rfl
theorem ztR0 : ("jdk/internal/util/Preconditions", "SIOOBE_FORMATTER", "Ljava/util/function/BiFunction;", 0) ∈ zStR := List.mem_of_getElem? (i := 0) rfl
theorem ztR1 : ("java/lang/Throwable", "UNASSIGNED_STACK", "[Ljava/lang/StackTraceElement;", 1) ∈ zStR := List.mem_of_getElem? (i := 1) rfl
theorem ztR2 : ("java/lang/Throwable", "SUPPRESSED_SENTINEL", "Ljava/util/List;", 2) ∈ zStR := List.mem_of_getElem? (i := 2) rfl
