/-! the law's own method (printed by gen/law.py) -/
def mM_law : mj_M := (x, code, 7, ret, 1, 18, 720, 99, [])
def cdl_22 : List mj_E := (1471, false, .iadd, 1, 0, 0, 0, 0, 0) ::
  (1472, false, .iaload, 1, 0, 0, 0, 0, 0) ::
  (1473, false, .invokevirtual 166, 3, 286, 2, 17, 0, 0) ::
  (1476, true, .istore 6, 2, 0, 0, 0, 0, 0) ::
  (1478, true, .aload_n 2, 1, 0, 0, 0, 0, 0) ::
  (1479, false, .invokevirtual 94, 3, 223, 0, 17, 0, 0) ::
  (1482, false, .iload 5, 2, 0, 0, 0, 0, 0) ::
  (1484, false, .if_icmp .eq 5, 3, 890, 0, 0, 0, 0) ::
  (1487, false, .iconst 0, 1, 0, 0, 0, jI 0, 0) ::
  (1488, false, .ireturn, 1, 0, 0, 0, 0, 0) ::
  (1489, true, .iload 5, 2, 0, 0, 0, 0, 0) ::
  (1491, false, .ifCond .ne 15, 3, 901, 0, 0, 0, 0) ::
  (1494, false, .aload_n 3, 1, 0, 0, 0, 0, 0) ::
  (1495, false, .iconst 0, 1, 0, 0, 0, jI 0, 0) ::
  (1496, false, .laload, 1, 0, 0, 0, 0, 0) ::
  (1497, false, .iload 6, 2, 0, 0, 0, 0, 0) ::
  (1499, false, .i2l, 1, 0, 0, 0, 0, 0) ::
  (1500, false, .lcmp, 1, 0, 0, 0, 0, 0) ::
  (1501, false, .ifCond .eq 5, 3, 901, 0, 0, 0, 0) ::
  (1504, false, .iconst 0, 1, 0, 0, 0, jI 0, 0) ::
  (1505, false, .ireturn, 1, 0, 0, 0, 0, 0) ::
  (1506, true, .goto 3, 3, 902, 0, 0, 0, 0) ::
  (1509, true, .iinc 4 4, 3, 0, 0, 0, jI 4, 0) ::
  (1512, false, .goto (-1489), 3, 13, 0, 0, 0, 0) ::
  (1515, false, .iconst 1, 1, 0, 0, 0, jI 1, 0) ::
  (1516, false, .ireturn, 1, 0, 0, 0, 0, 0) ::
  []
def cdl_21 : List mj_E := (1411, false, .invokevirtual 94, 3, 223, 0, 17, 0, 0) ::
  (1414, false, .iload 5, 2, 0, 0, 0, 0, 0) ::
  (1416, false, .if_icmp .eq 5, 3, 845, 0, 0, 0, 0) ::
  (1419, false, .iconst 0, 1, 0, 0, 0, jI 0, 0) ::
  (1420, false, .ireturn, 1, 0, 0, 0, 0, 0) ::
  (1421, true, .iload 5, 2, 0, 0, 0, 0, 0) ::
  (1423, false, .ifCond .ne 15, 3, 856, 0, 0, 0, 0) ::
  (1426, false, .aload_n 3, 1, 0, 0, 0, 0, 0) ::
  (1427, false, .iconst 0, 1, 0, 0, 0, jI 0, 0) ::
  (1428, false, .laload, 1, 0, 0, 0, 0, 0) ::
  (1429, false, .iload 6, 2, 0, 0, 0, 0, 0) ::
  (1431, false, .i2l, 1, 0, 0, 0, 0, 0) ::
  (1432, false, .lcmp, 1, 0, 0, 0, 0, 0) ::
  (1433, false, .ifCond .eq 5, 3, 856, 0, 0, 0, 0) ::
  (1436, false, .iconst 0, 1, 0, 0, 0, jI 0, 0) ::
  (1437, false, .ireturn, 1, 0, 0, 0, 0, 0) ::
  (1438, true, .goto 71, 3, 902, 0, 0, 0, 0) ::
  (1441, true, .aload_n 1, 1, 0, 0, 0, 0, 0) ::
  (1442, false, .aload_n 0, 1, 0, 0, 0, 0, 0) ::
  (1443, false, .iload 4, 2, 0, 0, 0, 0, 0) ::
  (1445, false, .iconst 1, 1, 0, 0, 0, jI 1, 0) ::
  (1446, false, .iadd, 1, 0, 0, 0, 0, 0) ::
  (1447, false, .iaload, 1, 0, 0, 0, 0, 0) ::
  (1448, false, .aload_n 0, 1, 0, 0, 0, 0, 0) ::
  (1449, false, .iload 4, 2, 0, 0, 0, 0, 0) ::
  (1451, false, .iconst 2, 1, 0, 0, 0, jI 2, 0) ::
  (1452, false, .iadd, 1, 0, 0, 0, 0, 0) ::
  (1453, false, .iaload, 1, 0, 0, 0, 0, 0) ::
  (1454, false, .aload_n 3, 1, 0, 0, 0, 0, 0) ::
  (1455, false, .invokestatic 164, 3, 187, 4, 0, 0, 0) ::
  (1458, true, .istore 5, 2, 0, 0, 0, 0, 0) ::
  (1460, true, .aload_n 2, 1, 0, 0, 0, 0, 0) ::
  (1461, false, .aload_n 0, 1, 0, 0, 0, 0, 0) ::
  (1462, false, .iload 4, 2, 0, 0, 0, 0, 0) ::
  (1464, false, .iconst 1, 1, 0, 0, 0, jI 1, 0) ::
  (1465, false, .iadd, 1, 0, 0, 0, 0, 0) ::
  (1466, false, .iaload, 1, 0, 0, 0, 0, 0) ::
  (1467, false, .aload_n 0, 1, 0, 0, 0, 0, 0) ::
  (1468, false, .iload 4, 2, 0, 0, 0, 0, 0) ::
  (1470, false, .iconst 2, 1, 0, 0, 0, jI 2, 0) ::
  cdl_22
def cdl_20 : List mj_E := (1353, true, .iload 5, 2, 0, 0, 0, 0, 0) ::
  (1355, false, .ifCond .ne 15, 3, 811, 0, 0, 0, 0) ::
  (1358, false, .aload_n 3, 1, 0, 0, 0, 0, 0) ::
  (1359, false, .iconst 0, 1, 0, 0, 0, jI 0, 0) ::
  (1360, false, .laload, 1, 0, 0, 0, 0, 0) ::
  (1361, false, .iload 6, 2, 0, 0, 0, 0, 0) ::
  (1363, false, .i2l, 1, 0, 0, 0, 0, 0) ::
  (1364, false, .lcmp, 1, 0, 0, 0, 0, 0) ::
  (1365, false, .ifCond .eq 5, 3, 811, 0, 0, 0, 0) ::
  (1368, false, .iconst 0, 1, 0, 0, 0, jI 0, 0) ::
  (1369, false, .ireturn, 1, 0, 0, 0, 0, 0) ::
  (1370, true, .goto 139, 3, 902, 0, 0, 0, 0) ::
  (1373, true, .aload_n 1, 1, 0, 0, 0, 0, 0) ::
  (1374, false, .aload_n 0, 1, 0, 0, 0, 0, 0) ::
  (1375, false, .iload 4, 2, 0, 0, 0, 0, 0) ::
  (1377, false, .iconst 1, 1, 0, 0, 0, jI 1, 0) ::
  (1378, false, .iadd, 1, 0, 0, 0, 0, 0) ::
  (1379, false, .iaload, 1, 0, 0, 0, 0, 0) ::
  (1380, false, .aload_n 0, 1, 0, 0, 0, 0, 0) ::
  (1381, false, .iload 4, 2, 0, 0, 0, 0, 0) ::
  (1383, false, .iconst 2, 1, 0, 0, 0, jI 2, 0) ::
  (1384, false, .iadd, 1, 0, 0, 0, 0, 0) ::
  (1385, false, .iaload, 1, 0, 0, 0, 0, 0) ::
  (1386, false, .aload_n 3, 1, 0, 0, 0, 0, 0) ::
  (1387, false, .invokestatic 161, 3, 185, 4, 0, 0, 0) ::
  (1390, true, .istore 5, 2, 0, 0, 0, 0, 0) ::
  (1392, true, .aload_n 2, 1, 0, 0, 0, 0, 0) ::
  (1393, false, .aload_n 0, 1, 0, 0, 0, 0, 0) ::
  (1394, false, .iload 4, 2, 0, 0, 0, 0, 0) ::
  (1396, false, .iconst 1, 1, 0, 0, 0, jI 1, 0) ::
  (1397, false, .iadd, 1, 0, 0, 0, 0, 0) ::
  (1398, false, .iaload, 1, 0, 0, 0, 0, 0) ::
  (1399, false, .aload_n 0, 1, 0, 0, 0, 0, 0) ::
  (1400, false, .iload 4, 2, 0, 0, 0, 0, 0) ::
  (1402, false, .iconst 2, 1, 0, 0, 0, jI 2, 0) ::
  (1403, false, .iadd, 1, 0, 0, 0, 0, 0) ::
  (1404, false, .iaload, 1, 0, 0, 0, 0, 0) ::
  (1405, false, .invokevirtual 163, 3, 285, 2, 17, 0, 0) ::
  (1408, true, .istore 6, 2, 0, 0, 0, 0, 0) ::
  (1410, true, .aload_n 2, 1, 0, 0, 0, 0, 0) ::
  cdl_21
def cdl_19 : List mj_E := (1287, false, .invokevirtual 94, 3, 223, 0, 17, 0, 0) ::
  (1290, false, .iload 5, 2, 0, 0, 0, 0, 0) ::
  (1292, false, .if_icmp .eq 5, 3, 765, 0, 0, 0, 0) ::
  (1295, false, .iconst 0, 1, 0, 0, 0, jI 0, 0) ::
  (1296, false, .ireturn, 1, 0, 0, 0, 0, 0) ::
  (1297, true, .iload 5, 2, 0, 0, 0, 0, 0) ::
  (1299, false, .ifCond .ne 15, 3, 776, 0, 0, 0, 0) ::
  (1302, false, .aload_n 3, 1, 0, 0, 0, 0, 0) ::
  (1303, false, .iconst 0, 1, 0, 0, 0, jI 0, 0) ::
  (1304, false, .laload, 1, 0, 0, 0, 0, 0) ::
  (1305, false, .iload 6, 2, 0, 0, 0, 0, 0) ::
  (1307, false, .i2l, 1, 0, 0, 0, 0, 0) ::
  (1308, false, .lcmp, 1, 0, 0, 0, 0, 0) ::
  (1309, false, .ifCond .eq 5, 3, 776, 0, 0, 0, 0) ::
  (1312, false, .iconst 0, 1, 0, 0, 0, jI 0, 0) ::
  (1313, false, .ireturn, 1, 0, 0, 0, 0, 0) ::
  (1314, true, .goto 195, 3, 902, 0, 0, 0, 0) ::
  (1317, true, .aload_n 1, 1, 0, 0, 0, 0, 0) ::
  (1318, false, .aload_n 0, 1, 0, 0, 0, 0, 0) ::
  (1319, false, .iload 4, 2, 0, 0, 0, 0, 0) ::
  (1321, false, .iconst 1, 1, 0, 0, 0, jI 1, 0) ::
  (1322, false, .iadd, 1, 0, 0, 0, 0, 0) ::
  (1323, false, .iaload, 1, 0, 0, 0, 0, 0) ::
  (1324, false, .aload_n 3, 1, 0, 0, 0, 0, 0) ::
  (1325, false, .invokestatic 158, 3, 182, 3, 0, 0, 0) ::
  (1328, true, .istore 5, 2, 0, 0, 0, 0, 0) ::
  (1330, true, .aload_n 2, 1, 0, 0, 0, 0, 0) ::
  (1331, false, .aload_n 0, 1, 0, 0, 0, 0, 0) ::
  (1332, false, .iload 4, 2, 0, 0, 0, 0, 0) ::
  (1334, false, .iconst 1, 1, 0, 0, 0, jI 1, 0) ::
  (1335, false, .iadd, 1, 0, 0, 0, 0, 0) ::
  (1336, false, .iaload, 1, 0, 0, 0, 0, 0) ::
  (1337, false, .invokevirtual 160, 3, 282, 1, 17, 0, 0) ::
  (1340, true, .istore 6, 2, 0, 0, 0, 0, 0) ::
  (1342, true, .aload_n 2, 1, 0, 0, 0, 0, 0) ::
  (1343, false, .invokevirtual 94, 3, 223, 0, 17, 0, 0) ::
  (1346, false, .iload 5, 2, 0, 0, 0, 0, 0) ::
  (1348, false, .if_icmp .eq 5, 3, 800, 0, 0, 0, 0) ::
  (1351, false, .iconst 0, 1, 0, 0, 0, jI 0, 0) ::
  (1352, false, .ireturn, 1, 0, 0, 0, 0, 0) ::
  cdl_20
def cdl_18 : List mj_E := (1223, false, .iadd, 1, 0, 0, 0, 0, 0) ::
  (1224, false, .iaload, 1, 0, 0, 0, 0, 0) ::
  (1225, false, .invokevirtual 154, 3, 278, 1, 17, 0, 0) ::
  (1228, true, .istore 6, 2, 0, 0, 0, 0, 0) ::
  (1230, true, .aload_n 2, 1, 0, 0, 0, 0, 0) ::
  (1231, false, .invokevirtual 94, 3, 223, 0, 17, 0, 0) ::
  (1234, false, .iload 5, 2, 0, 0, 0, 0, 0) ::
  (1236, false, .if_icmp .eq 5, 3, 730, 0, 0, 0, 0) ::
  (1239, false, .iconst 0, 1, 0, 0, 0, jI 0, 0) ::
  (1240, false, .ireturn, 1, 0, 0, 0, 0, 0) ::
  (1241, true, .iload 5, 2, 0, 0, 0, 0, 0) ::
  (1243, false, .ifCond .ne 15, 3, 741, 0, 0, 0, 0) ::
  (1246, false, .aload_n 3, 1, 0, 0, 0, 0, 0) ::
  (1247, false, .iconst 0, 1, 0, 0, 0, jI 0, 0) ::
  (1248, false, .laload, 1, 0, 0, 0, 0, 0) ::
  (1249, false, .iload 6, 2, 0, 0, 0, 0, 0) ::
  (1251, false, .i2l, 1, 0, 0, 0, 0, 0) ::
  (1252, false, .lcmp, 1, 0, 0, 0, 0, 0) ::
  (1253, false, .ifCond .eq 5, 3, 741, 0, 0, 0, 0) ::
  (1256, false, .iconst 0, 1, 0, 0, 0, jI 0, 0) ::
  (1257, false, .ireturn, 1, 0, 0, 0, 0, 0) ::
  (1258, true, .goto 251, 3, 902, 0, 0, 0, 0) ::
  (1261, true, .aload_n 1, 1, 0, 0, 0, 0, 0) ::
  (1262, false, .aload_n 0, 1, 0, 0, 0, 0, 0) ::
  (1263, false, .iload 4, 2, 0, 0, 0, 0, 0) ::
  (1265, false, .iconst 1, 1, 0, 0, 0, jI 1, 0) ::
  (1266, false, .iadd, 1, 0, 0, 0, 0, 0) ::
  (1267, false, .iaload, 1, 0, 0, 0, 0, 0) ::
  (1268, false, .aload_n 3, 1, 0, 0, 0, 0, 0) ::
  (1269, false, .invokestatic 155, 3, 178, 3, 0, 0, 0) ::
  (1272, true, .istore 5, 2, 0, 0, 0, 0, 0) ::
  (1274, true, .aload_n 2, 1, 0, 0, 0, 0, 0) ::
  (1275, false, .aload_n 0, 1, 0, 0, 0, 0, 0) ::
  (1276, false, .iload 4, 2, 0, 0, 0, 0, 0) ::
  (1278, false, .iconst 1, 1, 0, 0, 0, jI 1, 0) ::
  (1279, false, .iadd, 1, 0, 0, 0, 0, 0) ::
  (1280, false, .iaload, 1, 0, 0, 0, 0, 0) ::
  (1281, false, .invokevirtual 157, 3, 279, 1, 17, 0, 0) ::
  (1284, true, .istore 6, 2, 0, 0, 0, 0, 0) ::
  (1286, true, .aload_n 2, 1, 0, 0, 0, 0, 0) ::
  cdl_19
def cdl_17 : List mj_E := (1160, true, .istore 5, 2, 0, 0, 0, 0, 0) ::
  (1162, true, .aload_n 2, 1, 0, 0, 0, 0, 0) ::
  (1163, false, .aload_n 0, 1, 0, 0, 0, 0, 0) ::
  (1164, false, .iload 4, 2, 0, 0, 0, 0, 0) ::
  (1166, false, .iconst 1, 1, 0, 0, 0, jI 1, 0) ::
  (1167, false, .iadd, 1, 0, 0, 0, 0, 0) ::
  (1168, false, .iaload, 1, 0, 0, 0, 0, 0) ::
  (1169, false, .invokevirtual 151, 3, 258, 1, 17, 0, 0) ::
  (1172, true, .istore 6, 2, 0, 0, 0, 0, 0) ::
  (1174, true, .aload_n 2, 1, 0, 0, 0, 0, 0) ::
  (1175, false, .invokevirtual 94, 3, 223, 0, 17, 0, 0) ::
  (1178, false, .iload 5, 2, 0, 0, 0, 0, 0) ::
  (1180, false, .if_icmp .eq 5, 3, 695, 0, 0, 0, 0) ::
  (1183, false, .iconst 0, 1, 0, 0, 0, jI 0, 0) ::
  (1184, false, .ireturn, 1, 0, 0, 0, 0, 0) ::
  (1185, true, .iload 5, 2, 0, 0, 0, 0, 0) ::
  (1187, false, .ifCond .ne 15, 3, 706, 0, 0, 0, 0) ::
  (1190, false, .aload_n 3, 1, 0, 0, 0, 0, 0) ::
  (1191, false, .iconst 0, 1, 0, 0, 0, jI 0, 0) ::
  (1192, false, .laload, 1, 0, 0, 0, 0, 0) ::
  (1193, false, .iload 6, 2, 0, 0, 0, 0, 0) ::
  (1195, false, .i2l, 1, 0, 0, 0, 0, 0) ::
  (1196, false, .lcmp, 1, 0, 0, 0, 0, 0) ::
  (1197, false, .ifCond .eq 5, 3, 706, 0, 0, 0, 0) ::
  (1200, false, .iconst 0, 1, 0, 0, 0, jI 0, 0) ::
  (1201, false, .ireturn, 1, 0, 0, 0, 0, 0) ::
  (1202, true, .goto 307, 3, 902, 0, 0, 0, 0) ::
  (1205, true, .aload_n 1, 1, 0, 0, 0, 0, 0) ::
  (1206, false, .aload_n 0, 1, 0, 0, 0, 0, 0) ::
  (1207, false, .iload 4, 2, 0, 0, 0, 0, 0) ::
  (1209, false, .iconst 1, 1, 0, 0, 0, jI 1, 0) ::
  (1210, false, .iadd, 1, 0, 0, 0, 0, 0) ::
  (1211, false, .iaload, 1, 0, 0, 0, 0, 0) ::
  (1212, false, .aload_n 3, 1, 0, 0, 0, 0, 0) ::
  (1213, false, .invokestatic 152, 3, 176, 3, 0, 0, 0) ::
  (1216, true, .istore 5, 2, 0, 0, 0, 0, 0) ::
  (1218, true, .aload_n 2, 1, 0, 0, 0, 0, 0) ::
  (1219, false, .aload_n 0, 1, 0, 0, 0, 0, 0) ::
  (1220, false, .iload 4, 2, 0, 0, 0, 0, 0) ::
  (1222, false, .iconst 1, 1, 0, 0, 0, jI 1, 0) ::
  cdl_18
def cdl_16 : List mj_E := (1097, false, .iconst 1, 1, 0, 0, 0, jI 1, 0) ::
  (1098, false, .iadd, 1, 0, 0, 0, 0, 0) ::
  (1099, false, .iaload, 1, 0, 0, 0, 0, 0) ::
  (1100, false, .aload_n 3, 1, 0, 0, 0, 0, 0) ::
  (1101, false, .invokestatic 146, 3, 172, 3, 0, 0, 0) ::
  (1104, true, .istore 5, 2, 0, 0, 0, 0, 0) ::
  (1106, true, .aload_n 2, 1, 0, 0, 0, 0, 0) ::
  (1107, false, .aload_n 0, 1, 0, 0, 0, 0, 0) ::
  (1108, false, .iload 4, 2, 0, 0, 0, 0, 0) ::
  (1110, false, .iconst 1, 1, 0, 0, 0, jI 1, 0) ::
  (1111, false, .iadd, 1, 0, 0, 0, 0, 0) ::
  (1112, false, .iaload, 1, 0, 0, 0, 0, 0) ::
  (1113, false, .invokevirtual 148, 3, 277, 1, 17, 0, 0) ::
  (1116, true, .istore 6, 2, 0, 0, 0, 0, 0) ::
  (1118, true, .aload_n 2, 1, 0, 0, 0, 0, 0) ::
  (1119, false, .invokevirtual 94, 3, 223, 0, 17, 0, 0) ::
  (1122, false, .iload 5, 2, 0, 0, 0, 0, 0) ::
  (1124, false, .if_icmp .eq 5, 3, 660, 0, 0, 0, 0) ::
  (1127, false, .iconst 0, 1, 0, 0, 0, jI 0, 0) ::
  (1128, false, .ireturn, 1, 0, 0, 0, 0, 0) ::
  (1129, true, .iload 5, 2, 0, 0, 0, 0, 0) ::
  (1131, false, .ifCond .ne 15, 3, 671, 0, 0, 0, 0) ::
  (1134, false, .aload_n 3, 1, 0, 0, 0, 0, 0) ::
  (1135, false, .iconst 0, 1, 0, 0, 0, jI 0, 0) ::
  (1136, false, .laload, 1, 0, 0, 0, 0, 0) ::
  (1137, false, .iload 6, 2, 0, 0, 0, 0, 0) ::
  (1139, false, .i2l, 1, 0, 0, 0, 0, 0) ::
  (1140, false, .lcmp, 1, 0, 0, 0, 0, 0) ::
  (1141, false, .ifCond .eq 5, 3, 671, 0, 0, 0, 0) ::
  (1144, false, .iconst 0, 1, 0, 0, 0, jI 0, 0) ::
  (1145, false, .ireturn, 1, 0, 0, 0, 0, 0) ::
  (1146, true, .goto 363, 3, 902, 0, 0, 0, 0) ::
  (1149, true, .aload_n 1, 1, 0, 0, 0, 0, 0) ::
  (1150, false, .aload_n 0, 1, 0, 0, 0, 0, 0) ::
  (1151, false, .iload 4, 2, 0, 0, 0, 0, 0) ::
  (1153, false, .iconst 1, 1, 0, 0, 0, jI 1, 0) ::
  (1154, false, .iadd, 1, 0, 0, 0, 0, 0) ::
  (1155, false, .iaload, 1, 0, 0, 0, 0, 0) ::
  (1156, false, .aload_n 3, 1, 0, 0, 0, 0, 0) ::
  (1157, false, .invokestatic 149, 3, 174, 3, 0, 0, 0) ::
  cdl_17
def cdl_15 : List mj_E := (1033, false, .ireturn, 1, 0, 0, 0, 0, 0) ::
  (1034, true, .goto 475, 3, 902, 0, 0, 0, 0) ::
  (1037, true, .aload_n 1, 1, 0, 0, 0, 0, 0) ::
  (1038, false, .aload_n 0, 1, 0, 0, 0, 0, 0) ::
  (1039, false, .iload 4, 2, 0, 0, 0, 0, 0) ::
  (1041, false, .iconst 1, 1, 0, 0, 0, jI 1, 0) ::
  (1042, false, .iadd, 1, 0, 0, 0, 0, 0) ::
  (1043, false, .iaload, 1, 0, 0, 0, 0, 0) ::
  (1044, false, .aload_n 3, 1, 0, 0, 0, 0, 0) ::
  (1045, false, .invokestatic 143, 3, 170, 3, 0, 0, 0) ::
  (1048, true, .istore 5, 2, 0, 0, 0, 0, 0) ::
  (1050, true, .aload_n 2, 1, 0, 0, 0, 0, 0) ::
  (1051, false, .aload_n 0, 1, 0, 0, 0, 0, 0) ::
  (1052, false, .iload 4, 2, 0, 0, 0, 0, 0) ::
  (1054, false, .iconst 1, 1, 0, 0, 0, jI 1, 0) ::
  (1055, false, .iadd, 1, 0, 0, 0, 0, 0) ::
  (1056, false, .iaload, 1, 0, 0, 0, 0, 0) ::
  (1057, false, .invokevirtual 145, 3, 275, 1, 17, 0, 0) ::
  (1060, true, .istore 6, 2, 0, 0, 0, 0, 0) ::
  (1062, true, .aload_n 2, 1, 0, 0, 0, 0, 0) ::
  (1063, false, .invokevirtual 94, 3, 223, 0, 17, 0, 0) ::
  (1066, false, .iload 5, 2, 0, 0, 0, 0, 0) ::
  (1068, false, .if_icmp .eq 5, 3, 625, 0, 0, 0, 0) ::
  (1071, false, .iconst 0, 1, 0, 0, 0, jI 0, 0) ::
  (1072, false, .ireturn, 1, 0, 0, 0, 0, 0) ::
  (1073, true, .iload 5, 2, 0, 0, 0, 0, 0) ::
  (1075, false, .ifCond .ne 15, 3, 636, 0, 0, 0, 0) ::
  (1078, false, .aload_n 3, 1, 0, 0, 0, 0, 0) ::
  (1079, false, .iconst 0, 1, 0, 0, 0, jI 0, 0) ::
  (1080, false, .laload, 1, 0, 0, 0, 0, 0) ::
  (1081, false, .iload 6, 2, 0, 0, 0, 0, 0) ::
  (1083, false, .i2l, 1, 0, 0, 0, 0, 0) ::
  (1084, false, .lcmp, 1, 0, 0, 0, 0, 0) ::
  (1085, false, .ifCond .eq 5, 3, 636, 0, 0, 0, 0) ::
  (1088, false, .iconst 0, 1, 0, 0, 0, jI 0, 0) ::
  (1089, false, .ireturn, 1, 0, 0, 0, 0, 0) ::
  (1090, true, .goto 419, 3, 902, 0, 0, 0, 0) ::
  (1093, true, .aload_n 1, 1, 0, 0, 0, 0, 0) ::
  (1094, false, .aload_n 0, 1, 0, 0, 0, 0, 0) ::
  (1095, false, .iload 4, 2, 0, 0, 0, 0, 0) ::
  cdl_16
def cdl_14 : List mj_E := (969, false, .iload 6, 2, 0, 0, 0, 0, 0) ::
  (971, false, .i2l, 1, 0, 0, 0, 0, 0) ::
  (972, false, .lcmp, 1, 0, 0, 0, 0, 0) ::
  (973, false, .ifCond .eq 5, 3, 566, 0, 0, 0, 0) ::
  (976, false, .iconst 0, 1, 0, 0, 0, jI 0, 0) ::
  (977, false, .ireturn, 1, 0, 0, 0, 0, 0) ::
  (978, true, .goto 531, 3, 902, 0, 0, 0, 0) ::
  (981, true, .aload_n 1, 1, 0, 0, 0, 0, 0) ::
  (982, false, .aload_n 0, 1, 0, 0, 0, 0, 0) ::
  (983, false, .iload 4, 2, 0, 0, 0, 0, 0) ::
  (985, false, .iconst 1, 1, 0, 0, 0, jI 1, 0) ::
  (986, false, .iadd, 1, 0, 0, 0, 0, 0) ::
  (987, false, .iaload, 1, 0, 0, 0, 0, 0) ::
  (988, false, .aload_n 3, 1, 0, 0, 0, 0, 0) ::
  (989, false, .invokestatic 140, 3, 136, 3, 0, 0, 0) ::
  (992, true, .istore 5, 2, 0, 0, 0, 0, 0) ::
  (994, true, .aload_n 2, 1, 0, 0, 0, 0, 0) ::
  (995, false, .aload_n 0, 1, 0, 0, 0, 0, 0) ::
  (996, false, .iload 4, 2, 0, 0, 0, 0, 0) ::
  (998, false, .iconst 1, 1, 0, 0, 0, jI 1, 0) ::
  (999, false, .iadd, 1, 0, 0, 0, 0, 0) ::
  (1000, false, .iaload, 1, 0, 0, 0, 0, 0) ::
  (1001, false, .invokevirtual 142, 3, 227, 1, 17, 0, 0) ::
  (1004, true, .istore 6, 2, 0, 0, 0, 0, 0) ::
  (1006, true, .aload_n 2, 1, 0, 0, 0, 0, 0) ::
  (1007, false, .invokevirtual 94, 3, 223, 0, 17, 0, 0) ::
  (1010, false, .iload 5, 2, 0, 0, 0, 0, 0) ::
  (1012, false, .if_icmp .eq 5, 3, 590, 0, 0, 0, 0) ::
  (1015, false, .iconst 0, 1, 0, 0, 0, jI 0, 0) ::
  (1016, false, .ireturn, 1, 0, 0, 0, 0, 0) ::
  (1017, true, .iload 5, 2, 0, 0, 0, 0, 0) ::
  (1019, false, .ifCond .ne 15, 3, 601, 0, 0, 0, 0) ::
  (1022, false, .aload_n 3, 1, 0, 0, 0, 0, 0) ::
  (1023, false, .iconst 0, 1, 0, 0, 0, jI 0, 0) ::
  (1024, false, .laload, 1, 0, 0, 0, 0, 0) ::
  (1025, false, .iload 6, 2, 0, 0, 0, 0, 0) ::
  (1027, false, .i2l, 1, 0, 0, 0, 0, 0) ::
  (1028, false, .lcmp, 1, 0, 0, 0, 0, 0) ::
  (1029, false, .ifCond .eq 5, 3, 601, 0, 0, 0, 0) ::
  (1032, false, .iconst 0, 1, 0, 0, 0, jI 0, 0) ::
  cdl_15
def cdl_13 : List mj_E := (905, true, .iload 5, 2, 0, 0, 0, 0, 0) ::
  (907, false, .ifCond .ne 15, 3, 531, 0, 0, 0, 0) ::
  (910, false, .aload_n 3, 1, 0, 0, 0, 0, 0) ::
  (911, false, .iconst 0, 1, 0, 0, 0, jI 0, 0) ::
  (912, false, .laload, 1, 0, 0, 0, 0, 0) ::
  (913, false, .iload 6, 2, 0, 0, 0, 0, 0) ::
  (915, false, .i2l, 1, 0, 0, 0, 0, 0) ::
  (916, false, .lcmp, 1, 0, 0, 0, 0, 0) ::
  (917, false, .ifCond .eq 5, 3, 531, 0, 0, 0, 0) ::
  (920, false, .iconst 0, 1, 0, 0, 0, jI 0, 0) ::
  (921, false, .ireturn, 1, 0, 0, 0, 0, 0) ::
  (922, true, .goto 587, 3, 902, 0, 0, 0, 0) ::
  (925, true, .aload_n 1, 1, 0, 0, 0, 0, 0) ::
  (926, false, .aload_n 0, 1, 0, 0, 0, 0, 0) ::
  (927, false, .iload 4, 2, 0, 0, 0, 0, 0) ::
  (929, false, .iconst 1, 1, 0, 0, 0, jI 1, 0) ::
  (930, false, .iadd, 1, 0, 0, 0, 0, 0) ::
  (931, false, .iaload, 1, 0, 0, 0, 0, 0) ::
  (932, false, .aload_n 3, 1, 0, 0, 0, 0, 0) ::
  (933, false, .invokestatic 137, 3, 134, 3, 0, 0, 0) ::
  (936, true, .istore 5, 2, 0, 0, 0, 0, 0) ::
  (938, true, .aload_n 2, 1, 0, 0, 0, 0, 0) ::
  (939, false, .aload_n 0, 1, 0, 0, 0, 0, 0) ::
  (940, false, .iload 4, 2, 0, 0, 0, 0, 0) ::
  (942, false, .iconst 1, 1, 0, 0, 0, jI 1, 0) ::
  (943, false, .iadd, 1, 0, 0, 0, 0, 0) ::
  (944, false, .iaload, 1, 0, 0, 0, 0, 0) ::
  (945, false, .invokevirtual 139, 3, 274, 1, 17, 0, 0) ::
  (948, true, .istore 6, 2, 0, 0, 0, 0, 0) ::
  (950, true, .aload_n 2, 1, 0, 0, 0, 0, 0) ::
  (951, false, .invokevirtual 94, 3, 223, 0, 17, 0, 0) ::
  (954, false, .iload 5, 2, 0, 0, 0, 0, 0) ::
  (956, false, .if_icmp .eq 5, 3, 555, 0, 0, 0, 0) ::
  (959, false, .iconst 0, 1, 0, 0, 0, jI 0, 0) ::
  (960, false, .ireturn, 1, 0, 0, 0, 0, 0) ::
  (961, true, .iload 5, 2, 0, 0, 0, 0, 0) ::
  (963, false, .ifCond .ne 15, 3, 566, 0, 0, 0, 0) ::
  (966, false, .aload_n 3, 1, 0, 0, 0, 0, 0) ::
  (967, false, .iconst 0, 1, 0, 0, 0, jI 0, 0) ::
  (968, false, .laload, 1, 0, 0, 0, 0, 0) ::
  cdl_14
def cdl_12 : List mj_E := (849, false, .iconst 1, 1, 0, 0, 0, jI 1, 0) ::
  (850, false, .iadd, 1, 0, 0, 0, 0, 0) ::
  (851, false, .iaload, 1, 0, 0, 0, 0, 0) ::
  (852, false, .aload_n 0, 1, 0, 0, 0, 0, 0) ::
  (853, false, .iload 4, 2, 0, 0, 0, 0, 0) ::
  (855, false, .iconst 2, 1, 0, 0, 0, jI 2, 0) ::
  (856, false, .iadd, 1, 0, 0, 0, 0, 0) ::
  (857, false, .iaload, 1, 0, 0, 0, 0, 0) ::
  (858, false, .aload_n 0, 1, 0, 0, 0, 0, 0) ::
  (859, false, .iload 4, 2, 0, 0, 0, 0, 0) ::
  (861, false, .iconst 3, 1, 0, 0, 0, jI 3, 0) ::
  (862, false, .iadd, 1, 0, 0, 0, 0, 0) ::
  (863, false, .iaload, 1, 0, 0, 0, 0, 0) ::
  (864, false, .aload_n 3, 1, 0, 0, 0, 0, 0) ::
  (865, false, .invokestatic 133, 3, 130, 5, 0, 0, 0) ::
  (868, true, .istore 5, 2, 0, 0, 0, 0, 0) ::
  (870, true, .aload_n 2, 1, 0, 0, 0, 0, 0) ::
  (871, false, .aload_n 0, 1, 0, 0, 0, 0, 0) ::
  (872, false, .iload 4, 2, 0, 0, 0, 0, 0) ::
  (874, false, .iconst 1, 1, 0, 0, 0, jI 1, 0) ::
  (875, false, .iadd, 1, 0, 0, 0, 0, 0) ::
  (876, false, .iaload, 1, 0, 0, 0, 0, 0) ::
  (877, false, .aload_n 0, 1, 0, 0, 0, 0, 0) ::
  (878, false, .iload 4, 2, 0, 0, 0, 0, 0) ::
  (880, false, .iconst 2, 1, 0, 0, 0, jI 2, 0) ::
  (881, false, .iadd, 1, 0, 0, 0, 0, 0) ::
  (882, false, .iaload, 1, 0, 0, 0, 0, 0) ::
  (883, false, .aload_n 0, 1, 0, 0, 0, 0, 0) ::
  (884, false, .iload 4, 2, 0, 0, 0, 0, 0) ::
  (886, false, .iconst 3, 1, 0, 0, 0, jI 3, 0) ::
  (887, false, .iadd, 1, 0, 0, 0, 0, 0) ::
  (888, false, .iaload, 1, 0, 0, 0, 0, 0) ::
  (889, false, .invokevirtual 136, 3, 226, 3, 17, 0, 0) ::
  (892, true, .istore 6, 2, 0, 0, 0, 0, 0) ::
  (894, true, .aload_n 2, 1, 0, 0, 0, 0, 0) ::
  (895, false, .invokevirtual 94, 3, 223, 0, 17, 0, 0) ::
  (898, false, .iload 5, 2, 0, 0, 0, 0, 0) ::
  (900, false, .if_icmp .eq 5, 3, 520, 0, 0, 0, 0) ::
  (903, false, .iconst 0, 1, 0, 0, 0, jI 0, 0) ::
  (904, false, .ireturn, 1, 0, 0, 0, 0, 0) ::
  cdl_13
def cdl_11 : List mj_E := (785, false, .ireturn, 1, 0, 0, 0, 0, 0) ::
  (786, true, .goto 723, 3, 902, 0, 0, 0, 0) ::
  (789, true, .aload_n 1, 1, 0, 0, 0, 0, 0) ::
  (790, false, .aload_n 0, 1, 0, 0, 0, 0, 0) ::
  (791, false, .iload 4, 2, 0, 0, 0, 0, 0) ::
  (793, false, .iconst 1, 1, 0, 0, 0, jI 1, 0) ::
  (794, false, .iadd, 1, 0, 0, 0, 0, 0) ::
  (795, false, .iaload, 1, 0, 0, 0, 0, 0) ::
  (796, false, .aload_n 3, 1, 0, 0, 0, 0, 0) ::
  (797, false, .invokestatic 130, 3, 125, 3, 0, 0, 0) ::
  (800, true, .istore 5, 2, 0, 0, 0, 0, 0) ::
  (802, true, .aload_n 2, 1, 0, 0, 0, 0, 0) ::
  (803, false, .aload_n 0, 1, 0, 0, 0, 0, 0) ::
  (804, false, .iload 4, 2, 0, 0, 0, 0, 0) ::
  (806, false, .iconst 1, 1, 0, 0, 0, jI 1, 0) ::
  (807, false, .iadd, 1, 0, 0, 0, 0, 0) ::
  (808, false, .iaload, 1, 0, 0, 0, 0, 0) ::
  (809, false, .invokevirtual 132, 3, 259, 1, 17, 0, 0) ::
  (812, true, .istore 6, 2, 0, 0, 0, 0, 0) ::
  (814, true, .aload_n 2, 1, 0, 0, 0, 0, 0) ::
  (815, false, .invokevirtual 94, 3, 223, 0, 17, 0, 0) ::
  (818, false, .iload 5, 2, 0, 0, 0, 0, 0) ::
  (820, false, .if_icmp .eq 5, 3, 465, 0, 0, 0, 0) ::
  (823, false, .iconst 0, 1, 0, 0, 0, jI 0, 0) ::
  (824, false, .ireturn, 1, 0, 0, 0, 0, 0) ::
  (825, true, .iload 5, 2, 0, 0, 0, 0, 0) ::
  (827, false, .ifCond .ne 15, 3, 476, 0, 0, 0, 0) ::
  (830, false, .aload_n 3, 1, 0, 0, 0, 0, 0) ::
  (831, false, .iconst 0, 1, 0, 0, 0, jI 0, 0) ::
  (832, false, .laload, 1, 0, 0, 0, 0, 0) ::
  (833, false, .iload 6, 2, 0, 0, 0, 0, 0) ::
  (835, false, .i2l, 1, 0, 0, 0, 0, 0) ::
  (836, false, .lcmp, 1, 0, 0, 0, 0, 0) ::
  (837, false, .ifCond .eq 5, 3, 476, 0, 0, 0, 0) ::
  (840, false, .iconst 0, 1, 0, 0, 0, jI 0, 0) ::
  (841, false, .ireturn, 1, 0, 0, 0, 0, 0) ::
  (842, true, .goto 667, 3, 902, 0, 0, 0, 0) ::
  (845, true, .aload_n 1, 1, 0, 0, 0, 0, 0) ::
  (846, false, .aload_n 0, 1, 0, 0, 0, 0, 0) ::
  (847, false, .iload 4, 2, 0, 0, 0, 0, 0) ::
  cdl_12
def cdl_10 : List mj_E := (725, false, .iconst 1, 1, 0, 0, 0, jI 1, 0) ::
  (726, false, .iadd, 1, 0, 0, 0, 0, 0) ::
  (727, false, .iaload, 1, 0, 0, 0, 0, 0) ::
  (728, false, .aload_n 0, 1, 0, 0, 0, 0, 0) ::
  (729, false, .iload 4, 2, 0, 0, 0, 0, 0) ::
  (731, false, .iconst 2, 1, 0, 0, 0, jI 2, 0) ::
  (732, false, .iadd, 1, 0, 0, 0, 0, 0) ::
  (733, false, .iaload, 1, 0, 0, 0, 0, 0) ::
  (734, false, .aload_n 3, 1, 0, 0, 0, 0, 0) ::
  (735, false, .invokestatic 127, 3, 122, 4, 0, 0, 0) ::
  (738, true, .istore 5, 2, 0, 0, 0, 0, 0) ::
  (740, true, .aload_n 2, 1, 0, 0, 0, 0, 0) ::
  (741, false, .aload_n 0, 1, 0, 0, 0, 0, 0) ::
  (742, false, .iload 4, 2, 0, 0, 0, 0, 0) ::
  (744, false, .iconst 1, 1, 0, 0, 0, jI 1, 0) ::
  (745, false, .iadd, 1, 0, 0, 0, 0, 0) ::
  (746, false, .iaload, 1, 0, 0, 0, 0, 0) ::
  (747, false, .aload_n 0, 1, 0, 0, 0, 0, 0) ::
  (748, false, .iload 4, 2, 0, 0, 0, 0, 0) ::
  (750, false, .iconst 2, 1, 0, 0, 0, jI 2, 0) ::
  (751, false, .iadd, 1, 0, 0, 0, 0, 0) ::
  (752, false, .iaload, 1, 0, 0, 0, 0, 0) ::
  (753, false, .invokevirtual 129, 3, 263, 2, 17, 0, 0) ::
  (756, true, .istore 6, 2, 0, 0, 0, 0, 0) ::
  (758, true, .aload_n 2, 1, 0, 0, 0, 0, 0) ::
  (759, false, .invokevirtual 94, 3, 223, 0, 17, 0, 0) ::
  (762, false, .iload 5, 2, 0, 0, 0, 0, 0) ::
  (764, false, .if_icmp .eq 5, 3, 430, 0, 0, 0, 0) ::
  (767, false, .iconst 0, 1, 0, 0, 0, jI 0, 0) ::
  (768, false, .ireturn, 1, 0, 0, 0, 0, 0) ::
  (769, true, .iload 5, 2, 0, 0, 0, 0, 0) ::
  (771, false, .ifCond .ne 15, 3, 441, 0, 0, 0, 0) ::
  (774, false, .aload_n 3, 1, 0, 0, 0, 0, 0) ::
  (775, false, .iconst 0, 1, 0, 0, 0, jI 0, 0) ::
  (776, false, .laload, 1, 0, 0, 0, 0, 0) ::
  (777, false, .iload 6, 2, 0, 0, 0, 0, 0) ::
  (779, false, .i2l, 1, 0, 0, 0, 0, 0) ::
  (780, false, .lcmp, 1, 0, 0, 0, 0, 0) ::
  (781, false, .ifCond .eq 5, 3, 441, 0, 0, 0, 0) ::
  (784, false, .iconst 0, 1, 0, 0, 0, jI 0, 0) ::
  cdl_11
def cdl_9 : List mj_E := (661, false, .ireturn, 1, 0, 0, 0, 0, 0) ::
  (662, true, .goto 847, 3, 902, 0, 0, 0, 0) ::
  (665, true, .aload_n 1, 1, 0, 0, 0, 0, 0) ::
  (666, false, .aload_n 0, 1, 0, 0, 0, 0, 0) ::
  (667, false, .iload 4, 2, 0, 0, 0, 0, 0) ::
  (669, false, .iconst 1, 1, 0, 0, 0, jI 1, 0) ::
  (670, false, .iadd, 1, 0, 0, 0, 0, 0) ::
  (671, false, .iaload, 1, 0, 0, 0, 0, 0) ::
  (672, false, .aload_n 3, 1, 0, 0, 0, 0, 0) ::
  (673, false, .invokestatic 124, 3, 120, 3, 0, 0, 0) ::
  (676, true, .istore 5, 2, 0, 0, 0, 0, 0) ::
  (678, true, .aload_n 2, 1, 0, 0, 0, 0, 0) ::
  (679, false, .aload_n 0, 1, 0, 0, 0, 0, 0) ::
  (680, false, .iload 4, 2, 0, 0, 0, 0, 0) ::
  (682, false, .iconst 1, 1, 0, 0, 0, jI 1, 0) ::
  (683, false, .iadd, 1, 0, 0, 0, 0, 0) ::
  (684, false, .iaload, 1, 0, 0, 0, 0, 0) ::
  (685, false, .invokevirtual 126, 3, 262, 1, 17, 0, 0) ::
  (688, true, .istore 6, 2, 0, 0, 0, 0, 0) ::
  (690, true, .aload_n 2, 1, 0, 0, 0, 0, 0) ::
  (691, false, .invokevirtual 94, 3, 223, 0, 17, 0, 0) ::
  (694, false, .iload 5, 2, 0, 0, 0, 0, 0) ::
  (696, false, .if_icmp .eq 5, 3, 385, 0, 0, 0, 0) ::
  (699, false, .iconst 0, 1, 0, 0, 0, jI 0, 0) ::
  (700, false, .ireturn, 1, 0, 0, 0, 0, 0) ::
  (701, true, .iload 5, 2, 0, 0, 0, 0, 0) ::
  (703, false, .ifCond .ne 15, 3, 396, 0, 0, 0, 0) ::
  (706, false, .aload_n 3, 1, 0, 0, 0, 0, 0) ::
  (707, false, .iconst 0, 1, 0, 0, 0, jI 0, 0) ::
  (708, false, .laload, 1, 0, 0, 0, 0, 0) ::
  (709, false, .iload 6, 2, 0, 0, 0, 0, 0) ::
  (711, false, .i2l, 1, 0, 0, 0, 0, 0) ::
  (712, false, .lcmp, 1, 0, 0, 0, 0, 0) ::
  (713, false, .ifCond .eq 5, 3, 396, 0, 0, 0, 0) ::
  (716, false, .iconst 0, 1, 0, 0, 0, jI 0, 0) ::
  (717, false, .ireturn, 1, 0, 0, 0, 0, 0) ::
  (718, true, .goto 791, 3, 902, 0, 0, 0, 0) ::
  (721, true, .aload_n 1, 1, 0, 0, 0, 0, 0) ::
  (722, false, .aload_n 0, 1, 0, 0, 0, 0, 0) ::
  (723, false, .iload 4, 2, 0, 0, 0, 0, 0) ::
  cdl_10
def cdl_8 : List mj_E := (601, false, .iconst 1, 1, 0, 0, 0, jI 1, 0) ::
  (602, false, .iadd, 1, 0, 0, 0, 0, 0) ::
  (603, false, .iaload, 1, 0, 0, 0, 0, 0) ::
  (604, false, .aload_n 0, 1, 0, 0, 0, 0, 0) ::
  (605, false, .iload 4, 2, 0, 0, 0, 0, 0) ::
  (607, false, .iconst 2, 1, 0, 0, 0, jI 2, 0) ::
  (608, false, .iadd, 1, 0, 0, 0, 0, 0) ::
  (609, false, .iaload, 1, 0, 0, 0, 0, 0) ::
  (610, false, .aload_n 3, 1, 0, 0, 0, 0, 0) ::
  (611, false, .invokestatic 121, 3, 118, 4, 0, 0, 0) ::
  (614, true, .istore 5, 2, 0, 0, 0, 0, 0) ::
  (616, true, .aload_n 2, 1, 0, 0, 0, 0, 0) ::
  (617, false, .aload_n 0, 1, 0, 0, 0, 0, 0) ::
  (618, false, .iload 4, 2, 0, 0, 0, 0, 0) ::
  (620, false, .iconst 1, 1, 0, 0, 0, jI 1, 0) ::
  (621, false, .iadd, 1, 0, 0, 0, 0, 0) ::
  (622, false, .iaload, 1, 0, 0, 0, 0, 0) ::
  (623, false, .aload_n 0, 1, 0, 0, 0, 0, 0) ::
  (624, false, .iload 4, 2, 0, 0, 0, 0, 0) ::
  (626, false, .iconst 2, 1, 0, 0, 0, jI 2, 0) ::
  (627, false, .iadd, 1, 0, 0, 0, 0, 0) ::
  (628, false, .iaload, 1, 0, 0, 0, 0, 0) ::
  (629, false, .invokevirtual 123, 3, 273, 2, 17, 0, 0) ::
  (632, true, .istore 6, 2, 0, 0, 0, 0, 0) ::
  (634, true, .aload_n 2, 1, 0, 0, 0, 0, 0) ::
  (635, false, .invokevirtual 94, 3, 223, 0, 17, 0, 0) ::
  (638, false, .iload 5, 2, 0, 0, 0, 0, 0) ::
  (640, false, .if_icmp .eq 5, 3, 350, 0, 0, 0, 0) ::
  (643, false, .iconst 0, 1, 0, 0, 0, jI 0, 0) ::
  (644, false, .ireturn, 1, 0, 0, 0, 0, 0) ::
  (645, true, .iload 5, 2, 0, 0, 0, 0, 0) ::
  (647, false, .ifCond .ne 15, 3, 361, 0, 0, 0, 0) ::
  (650, false, .aload_n 3, 1, 0, 0, 0, 0, 0) ::
  (651, false, .iconst 0, 1, 0, 0, 0, jI 0, 0) ::
  (652, false, .laload, 1, 0, 0, 0, 0, 0) ::
  (653, false, .iload 6, 2, 0, 0, 0, 0, 0) ::
  (655, false, .i2l, 1, 0, 0, 0, 0, 0) ::
  (656, false, .lcmp, 1, 0, 0, 0, 0, 0) ::
  (657, false, .ifCond .eq 5, 3, 361, 0, 0, 0, 0) ::
  (660, false, .iconst 0, 1, 0, 0, 0, jI 0, 0) ::
  cdl_9
def cdl_7 : List mj_E := (537, false, .ireturn, 1, 0, 0, 0, 0, 0) ::
  (538, true, .goto 971, 3, 902, 0, 0, 0, 0) ::
  (541, true, .aload_n 1, 1, 0, 0, 0, 0, 0) ::
  (542, false, .aload_n 0, 1, 0, 0, 0, 0, 0) ::
  (543, false, .iload 4, 2, 0, 0, 0, 0, 0) ::
  (545, false, .iconst 1, 1, 0, 0, 0, jI 1, 0) ::
  (546, false, .iadd, 1, 0, 0, 0, 0, 0) ::
  (547, false, .iaload, 1, 0, 0, 0, 0, 0) ::
  (548, false, .aload_n 3, 1, 0, 0, 0, 0, 0) ::
  (549, false, .invokestatic 118, 3, 116, 3, 0, 0, 0) ::
  (552, true, .istore 5, 2, 0, 0, 0, 0, 0) ::
  (554, true, .aload_n 2, 1, 0, 0, 0, 0, 0) ::
  (555, false, .aload_n 0, 1, 0, 0, 0, 0, 0) ::
  (556, false, .iload 4, 2, 0, 0, 0, 0, 0) ::
  (558, false, .iconst 1, 1, 0, 0, 0, jI 1, 0) ::
  (559, false, .iadd, 1, 0, 0, 0, 0, 0) ::
  (560, false, .iaload, 1, 0, 0, 0, 0, 0) ::
  (561, false, .invokevirtual 120, 3, 272, 1, 17, 0, 0) ::
  (564, true, .istore 6, 2, 0, 0, 0, 0, 0) ::
  (566, true, .aload_n 2, 1, 0, 0, 0, 0, 0) ::
  (567, false, .invokevirtual 94, 3, 223, 0, 17, 0, 0) ::
  (570, false, .iload 5, 2, 0, 0, 0, 0, 0) ::
  (572, false, .if_icmp .eq 5, 3, 305, 0, 0, 0, 0) ::
  (575, false, .iconst 0, 1, 0, 0, 0, jI 0, 0) ::
  (576, false, .ireturn, 1, 0, 0, 0, 0, 0) ::
  (577, true, .iload 5, 2, 0, 0, 0, 0, 0) ::
  (579, false, .ifCond .ne 15, 3, 316, 0, 0, 0, 0) ::
  (582, false, .aload_n 3, 1, 0, 0, 0, 0, 0) ::
  (583, false, .iconst 0, 1, 0, 0, 0, jI 0, 0) ::
  (584, false, .laload, 1, 0, 0, 0, 0, 0) ::
  (585, false, .iload 6, 2, 0, 0, 0, 0, 0) ::
  (587, false, .i2l, 1, 0, 0, 0, 0, 0) ::
  (588, false, .lcmp, 1, 0, 0, 0, 0, 0) ::
  (589, false, .ifCond .eq 5, 3, 316, 0, 0, 0, 0) ::
  (592, false, .iconst 0, 1, 0, 0, 0, jI 0, 0) ::
  (593, false, .ireturn, 1, 0, 0, 0, 0, 0) ::
  (594, true, .goto 915, 3, 902, 0, 0, 0, 0) ::
  (597, true, .aload_n 1, 1, 0, 0, 0, 0, 0) ::
  (598, false, .aload_n 0, 1, 0, 0, 0, 0, 0) ::
  (599, false, .iload 4, 2, 0, 0, 0, 0, 0) ::
  cdl_8
def cdl_6 : List mj_E := (473, false, .iload 6, 2, 0, 0, 0, 0, 0) ::
  (475, false, .i2l, 1, 0, 0, 0, 0, 0) ::
  (476, false, .lcmp, 1, 0, 0, 0, 0, 0) ::
  (477, false, .ifCond .eq 5, 3, 246, 0, 0, 0, 0) ::
  (480, false, .iconst 0, 1, 0, 0, 0, jI 0, 0) ::
  (481, false, .ireturn, 1, 0, 0, 0, 0, 0) ::
  (482, true, .goto 1027, 3, 902, 0, 0, 0, 0) ::
  (485, true, .aload_n 1, 1, 0, 0, 0, 0, 0) ::
  (486, false, .aload_n 0, 1, 0, 0, 0, 0, 0) ::
  (487, false, .iload 4, 2, 0, 0, 0, 0, 0) ::
  (489, false, .iconst 1, 1, 0, 0, 0, jI 1, 0) ::
  (490, false, .iadd, 1, 0, 0, 0, 0, 0) ::
  (491, false, .iaload, 1, 0, 0, 0, 0, 0) ::
  (492, false, .aload_n 3, 1, 0, 0, 0, 0, 0) ::
  (493, false, .invokestatic 115, 3, 114, 3, 0, 0, 0) ::
  (496, true, .istore 5, 2, 0, 0, 0, 0, 0) ::
  (498, true, .aload_n 2, 1, 0, 0, 0, 0, 0) ::
  (499, false, .aload_n 0, 1, 0, 0, 0, 0, 0) ::
  (500, false, .iload 4, 2, 0, 0, 0, 0, 0) ::
  (502, false, .iconst 1, 1, 0, 0, 0, jI 1, 0) ::
  (503, false, .iadd, 1, 0, 0, 0, 0, 0) ::
  (504, false, .iaload, 1, 0, 0, 0, 0, 0) ::
  (505, false, .invokevirtual 117, 3, 271, 1, 17, 0, 0) ::
  (508, true, .istore 6, 2, 0, 0, 0, 0, 0) ::
  (510, true, .aload_n 2, 1, 0, 0, 0, 0, 0) ::
  (511, false, .invokevirtual 94, 3, 223, 0, 17, 0, 0) ::
  (514, false, .iload 5, 2, 0, 0, 0, 0, 0) ::
  (516, false, .if_icmp .eq 5, 3, 270, 0, 0, 0, 0) ::
  (519, false, .iconst 0, 1, 0, 0, 0, jI 0, 0) ::
  (520, false, .ireturn, 1, 0, 0, 0, 0, 0) ::
  (521, true, .iload 5, 2, 0, 0, 0, 0, 0) ::
  (523, false, .ifCond .ne 15, 3, 281, 0, 0, 0, 0) ::
  (526, false, .aload_n 3, 1, 0, 0, 0, 0, 0) ::
  (527, false, .iconst 0, 1, 0, 0, 0, jI 0, 0) ::
  (528, false, .laload, 1, 0, 0, 0, 0, 0) ::
  (529, false, .iload 6, 2, 0, 0, 0, 0, 0) ::
  (531, false, .i2l, 1, 0, 0, 0, 0, 0) ::
  (532, false, .lcmp, 1, 0, 0, 0, 0, 0) ::
  (533, false, .ifCond .eq 5, 3, 281, 0, 0, 0, 0) ::
  (536, false, .iconst 0, 1, 0, 0, 0, jI 0, 0) ::
  cdl_7
def cdl_5 : List mj_E := (413, false, .ireturn, 1, 0, 0, 0, 0, 0) ::
  (414, true, .goto 1095, 3, 902, 0, 0, 0, 0) ::
  (417, true, .aload_n 1, 1, 0, 0, 0, 0, 0) ::
  (418, false, .aload_n 0, 1, 0, 0, 0, 0, 0) ::
  (419, false, .iload 4, 2, 0, 0, 0, 0, 0) ::
  (421, false, .iconst 1, 1, 0, 0, 0, jI 1, 0) ::
  (422, false, .iadd, 1, 0, 0, 0, 0, 0) ::
  (423, false, .iaload, 1, 0, 0, 0, 0, 0) ::
  (424, false, .aload_n 0, 1, 0, 0, 0, 0, 0) ::
  (425, false, .iload 4, 2, 0, 0, 0, 0, 0) ::
  (427, false, .iconst 2, 1, 0, 0, 0, jI 2, 0) ::
  (428, false, .iadd, 1, 0, 0, 0, 0, 0) ::
  (429, false, .iaload, 1, 0, 0, 0, 0, 0) ::
  (430, false, .aload_n 3, 1, 0, 0, 0, 0, 0) ::
  (431, false, .invokestatic 112, 3, 112, 4, 0, 0, 0) ::
  (434, true, .istore 5, 2, 0, 0, 0, 0, 0) ::
  (436, true, .aload_n 2, 1, 0, 0, 0, 0, 0) ::
  (437, false, .aload_n 0, 1, 0, 0, 0, 0, 0) ::
  (438, false, .iload 4, 2, 0, 0, 0, 0, 0) ::
  (440, false, .iconst 1, 1, 0, 0, 0, jI 1, 0) ::
  (441, false, .iadd, 1, 0, 0, 0, 0, 0) ::
  (442, false, .iaload, 1, 0, 0, 0, 0, 0) ::
  (443, false, .aload_n 0, 1, 0, 0, 0, 0, 0) ::
  (444, false, .iload 4, 2, 0, 0, 0, 0, 0) ::
  (446, false, .iconst 2, 1, 0, 0, 0, jI 2, 0) ::
  (447, false, .iadd, 1, 0, 0, 0, 0, 0) ::
  (448, false, .iaload, 1, 0, 0, 0, 0, 0) ::
  (449, false, .invokevirtual 114, 3, 270, 2, 17, 0, 0) ::
  (452, true, .istore 6, 2, 0, 0, 0, 0, 0) ::
  (454, true, .aload_n 2, 1, 0, 0, 0, 0, 0) ::
  (455, false, .invokevirtual 94, 3, 223, 0, 17, 0, 0) ::
  (458, false, .iload 5, 2, 0, 0, 0, 0, 0) ::
  (460, false, .if_icmp .eq 5, 3, 235, 0, 0, 0, 0) ::
  (463, false, .iconst 0, 1, 0, 0, 0, jI 0, 0) ::
  (464, false, .ireturn, 1, 0, 0, 0, 0, 0) ::
  (465, true, .iload 5, 2, 0, 0, 0, 0, 0) ::
  (467, false, .ifCond .ne 15, 3, 246, 0, 0, 0, 0) ::
  (470, false, .aload_n 3, 1, 0, 0, 0, 0, 0) ::
  (471, false, .iconst 0, 1, 0, 0, 0, jI 0, 0) ::
  (472, false, .laload, 1, 0, 0, 0, 0, 0) ::
  cdl_6
def cdl_4 : List mj_E := (349, false, .iload 6, 2, 0, 0, 0, 0, 0) ::
  (351, false, .i2l, 1, 0, 0, 0, 0, 0) ::
  (352, false, .lcmp, 1, 0, 0, 0, 0, 0) ::
  (353, false, .ifCond .eq 5, 3, 166, 0, 0, 0, 0) ::
  (356, false, .iconst 0, 1, 0, 0, 0, jI 0, 0) ::
  (357, false, .ireturn, 1, 0, 0, 0, 0, 0) ::
  (358, true, .goto 1151, 3, 902, 0, 0, 0, 0) ::
  (361, true, .aload_n 1, 1, 0, 0, 0, 0, 0) ::
  (362, false, .aload_n 0, 1, 0, 0, 0, 0, 0) ::
  (363, false, .iload 4, 2, 0, 0, 0, 0, 0) ::
  (365, false, .iconst 1, 1, 0, 0, 0, jI 1, 0) ::
  (366, false, .iadd, 1, 0, 0, 0, 0, 0) ::
  (367, false, .iaload, 1, 0, 0, 0, 0, 0) ::
  (368, false, .aload_n 3, 1, 0, 0, 0, 0, 0) ::
  (369, false, .invokestatic 109, 3, 110, 3, 0, 0, 0) ::
  (372, true, .istore 5, 2, 0, 0, 0, 0, 0) ::
  (374, true, .aload_n 2, 1, 0, 0, 0, 0, 0) ::
  (375, false, .aload_n 0, 1, 0, 0, 0, 0, 0) ::
  (376, false, .iload 4, 2, 0, 0, 0, 0, 0) ::
  (378, false, .iconst 1, 1, 0, 0, 0, jI 1, 0) ::
  (379, false, .iadd, 1, 0, 0, 0, 0, 0) ::
  (380, false, .iaload, 1, 0, 0, 0, 0, 0) ::
  (381, false, .invokevirtual 111, 3, 268, 1, 17, 0, 0) ::
  (384, true, .istore 6, 2, 0, 0, 0, 0, 0) ::
  (386, true, .aload_n 2, 1, 0, 0, 0, 0, 0) ::
  (387, false, .invokevirtual 94, 3, 223, 0, 17, 0, 0) ::
  (390, false, .iload 5, 2, 0, 0, 0, 0, 0) ::
  (392, false, .if_icmp .eq 5, 3, 190, 0, 0, 0, 0) ::
  (395, false, .iconst 0, 1, 0, 0, 0, jI 0, 0) ::
  (396, false, .ireturn, 1, 0, 0, 0, 0, 0) ::
  (397, true, .iload 5, 2, 0, 0, 0, 0, 0) ::
  (399, false, .ifCond .ne 15, 3, 201, 0, 0, 0, 0) ::
  (402, false, .aload_n 3, 1, 0, 0, 0, 0, 0) ::
  (403, false, .iconst 0, 1, 0, 0, 0, jI 0, 0) ::
  (404, false, .laload, 1, 0, 0, 0, 0, 0) ::
  (405, false, .iload 6, 2, 0, 0, 0, 0, 0) ::
  (407, false, .i2l, 1, 0, 0, 0, 0, 0) ::
  (408, false, .lcmp, 1, 0, 0, 0, 0, 0) ::
  (409, false, .ifCond .eq 5, 3, 201, 0, 0, 0, 0) ::
  (412, false, .iconst 0, 1, 0, 0, 0, jI 0, 0) ::
  cdl_5
def cdl_3 : List mj_E := (289, false, .ireturn, 1, 0, 0, 0, 0, 0) ::
  (290, true, .goto 1219, 3, 902, 0, 0, 0, 0) ::
  (293, true, .aload_n 1, 1, 0, 0, 0, 0, 0) ::
  (294, false, .aload_n 0, 1, 0, 0, 0, 0, 0) ::
  (295, false, .iload 4, 2, 0, 0, 0, 0, 0) ::
  (297, false, .iconst 1, 1, 0, 0, 0, jI 1, 0) ::
  (298, false, .iadd, 1, 0, 0, 0, 0, 0) ::
  (299, false, .iaload, 1, 0, 0, 0, 0, 0) ::
  (300, false, .aload_n 0, 1, 0, 0, 0, 0, 0) ::
  (301, false, .iload 4, 2, 0, 0, 0, 0, 0) ::
  (303, false, .iconst 2, 1, 0, 0, 0, jI 2, 0) ::
  (304, false, .iadd, 1, 0, 0, 0, 0, 0) ::
  (305, false, .iaload, 1, 0, 0, 0, 0, 0) ::
  (306, false, .aload_n 3, 1, 0, 0, 0, 0, 0) ::
  (307, false, .invokestatic 106, 3, 108, 4, 0, 0, 0) ::
  (310, true, .istore 5, 2, 0, 0, 0, 0, 0) ::
  (312, true, .aload_n 2, 1, 0, 0, 0, 0, 0) ::
  (313, false, .aload_n 0, 1, 0, 0, 0, 0, 0) ::
  (314, false, .iload 4, 2, 0, 0, 0, 0, 0) ::
  (316, false, .iconst 1, 1, 0, 0, 0, jI 1, 0) ::
  (317, false, .iadd, 1, 0, 0, 0, 0, 0) ::
  (318, false, .iaload, 1, 0, 0, 0, 0, 0) ::
  (319, false, .aload_n 0, 1, 0, 0, 0, 0, 0) ::
  (320, false, .iload 4, 2, 0, 0, 0, 0, 0) ::
  (322, false, .iconst 2, 1, 0, 0, 0, jI 2, 0) ::
  (323, false, .iadd, 1, 0, 0, 0, 0, 0) ::
  (324, false, .iaload, 1, 0, 0, 0, 0, 0) ::
  (325, false, .invokevirtual 108, 3, 267, 2, 17, 0, 0) ::
  (328, true, .istore 6, 2, 0, 0, 0, 0, 0) ::
  (330, true, .aload_n 2, 1, 0, 0, 0, 0, 0) ::
  (331, false, .invokevirtual 94, 3, 223, 0, 17, 0, 0) ::
  (334, false, .iload 5, 2, 0, 0, 0, 0, 0) ::
  (336, false, .if_icmp .eq 5, 3, 155, 0, 0, 0, 0) ::
  (339, false, .iconst 0, 1, 0, 0, 0, jI 0, 0) ::
  (340, false, .ireturn, 1, 0, 0, 0, 0, 0) ::
  (341, true, .iload 5, 2, 0, 0, 0, 0, 0) ::
  (343, false, .ifCond .ne 15, 3, 166, 0, 0, 0, 0) ::
  (346, false, .aload_n 3, 1, 0, 0, 0, 0, 0) ::
  (347, false, .iconst 0, 1, 0, 0, 0, jI 0, 0) ::
  (348, false, .laload, 1, 0, 0, 0, 0, 0) ::
  cdl_4
def cdl_2 : List mj_E := (229, false, .iconst 1, 1, 0, 0, 0, jI 1, 0) ::
  (230, false, .iadd, 1, 0, 0, 0, 0, 0) ::
  (231, false, .iaload, 1, 0, 0, 0, 0, 0) ::
  (232, false, .aload_n 0, 1, 0, 0, 0, 0, 0) ::
  (233, false, .iload 4, 2, 0, 0, 0, 0, 0) ::
  (235, false, .iconst 2, 1, 0, 0, 0, jI 2, 0) ::
  (236, false, .iadd, 1, 0, 0, 0, 0, 0) ::
  (237, false, .iaload, 1, 0, 0, 0, 0, 0) ::
  (238, false, .aload_n 3, 1, 0, 0, 0, 0, 0) ::
  (239, false, .invokestatic 102, 3, 102, 4, 0, 0, 0) ::
  (242, true, .istore 5, 2, 0, 0, 0, 0, 0) ::
  (244, true, .aload_n 2, 1, 0, 0, 0, 0, 0) ::
  (245, false, .aload_n 0, 1, 0, 0, 0, 0, 0) ::
  (246, false, .iload 4, 2, 0, 0, 0, 0, 0) ::
  (248, false, .iconst 1, 1, 0, 0, 0, jI 1, 0) ::
  (249, false, .iadd, 1, 0, 0, 0, 0, 0) ::
  (250, false, .iaload, 1, 0, 0, 0, 0, 0) ::
  (251, false, .aload_n 0, 1, 0, 0, 0, 0, 0) ::
  (252, false, .iload 4, 2, 0, 0, 0, 0, 0) ::
  (254, false, .iconst 2, 1, 0, 0, 0, jI 2, 0) ::
  (255, false, .iadd, 1, 0, 0, 0, 0, 0) ::
  (256, false, .iaload, 1, 0, 0, 0, 0, 0) ::
  (257, false, .invokevirtual 105, 3, 266, 2, 17, 0, 0) ::
  (260, true, .istore 6, 2, 0, 0, 0, 0, 0) ::
  (262, true, .aload_n 2, 1, 0, 0, 0, 0, 0) ::
  (263, false, .invokevirtual 94, 3, 223, 0, 17, 0, 0) ::
  (266, false, .iload 5, 2, 0, 0, 0, 0, 0) ::
  (268, false, .if_icmp .eq 5, 3, 110, 0, 0, 0, 0) ::
  (271, false, .iconst 0, 1, 0, 0, 0, jI 0, 0) ::
  (272, false, .ireturn, 1, 0, 0, 0, 0, 0) ::
  (273, true, .iload 5, 2, 0, 0, 0, 0, 0) ::
  (275, false, .ifCond .ne 15, 3, 121, 0, 0, 0, 0) ::
  (278, false, .aload_n 3, 1, 0, 0, 0, 0, 0) ::
  (279, false, .iconst 0, 1, 0, 0, 0, jI 0, 0) ::
  (280, false, .laload, 1, 0, 0, 0, 0, 0) ::
  (281, false, .iload 6, 2, 0, 0, 0, 0, 0) ::
  (283, false, .i2l, 1, 0, 0, 0, 0, 0) ::
  (284, false, .lcmp, 1, 0, 0, 0, 0, 0) ::
  (285, false, .ifCond .eq 5, 3, 121, 0, 0, 0, 0) ::
  (288, false, .iconst 0, 1, 0, 0, 0, jI 0, 0) ::
  cdl_3
def cdl_1 : List mj_E := (164, false, .invokevirtual 93, 3, 224, 1, 17, 0, 0) ::
  (167, true, .istore 6, 2, 0, 0, 0, 0, 0) ::
  (169, true, .aload_n 2, 1, 0, 0, 0, 0, 0) ::
  (170, false, .invokevirtual 94, 3, 223, 0, 17, 0, 0) ::
  (173, false, .iload 5, 2, 0, 0, 0, 0, 0) ::
  (175, false, .if_icmp .eq 5, 3, 48, 0, 0, 0, 0) ::
  (178, false, .iconst 0, 1, 0, 0, 0, jI 0, 0) ::
  (179, false, .ireturn, 1, 0, 0, 0, 0, 0) ::
  (180, true, .iload 5, 2, 0, 0, 0, 0, 0) ::
  (182, false, .ifCond .ne 15, 3, 59, 0, 0, 0, 0) ::
  (185, false, .aload_n 3, 1, 0, 0, 0, 0, 0) ::
  (186, false, .iconst 0, 1, 0, 0, 0, jI 0, 0) ::
  (187, false, .laload, 1, 0, 0, 0, 0, 0) ::
  (188, false, .iload 6, 2, 0, 0, 0, 0, 0) ::
  (190, false, .i2l, 1, 0, 0, 0, 0, 0) ::
  (191, false, .lcmp, 1, 0, 0, 0, 0, 0) ::
  (192, false, .ifCond .eq 5, 3, 59, 0, 0, 0, 0) ::
  (195, false, .iconst 0, 1, 0, 0, 0, jI 0, 0) ::
  (196, false, .ireturn, 1, 0, 0, 0, 0, 0) ::
  (197, true, .goto 1312, 3, 902, 0, 0, 0, 0) ::
  (200, true, .aload_n 1, 1, 0, 0, 0, 0, 0) ::
  (201, false, .aload_n 0, 1, 0, 0, 0, 0, 0) ::
  (202, false, .iload 4, 2, 0, 0, 0, 0, 0) ::
  (204, false, .iconst 1, 1, 0, 0, 0, jI 1, 0) ::
  (205, false, .iadd, 1, 0, 0, 0, 0, 0) ::
  (206, false, .iaload, 1, 0, 0, 0, 0, 0) ::
  (207, false, .invokevirtual 98, 3, 96, 1, 0, 0, 0) ::
  (210, false, .aload_n 2, 1, 0, 0, 0, 0, 0) ::
  (211, false, .aload_n 0, 1, 0, 0, 0, 0, 0) ::
  (212, false, .iload 4, 2, 0, 0, 0, 0, 0) ::
  (214, false, .iconst 1, 1, 0, 0, 0, jI 1, 0) ::
  (215, false, .iadd, 1, 0, 0, 0, 0, 0) ::
  (216, false, .iaload, 1, 0, 0, 0, 0, 0) ::
  (217, false, .invokevirtual 101, 3, 265, 1, 17, 0, 0) ::
  (220, false, .if_icmp .eq 1289, 3, 902, 0, 0, 0, 0) ::
  (223, false, .iconst 0, 1, 0, 0, 0, jI 0, 0) ::
  (224, false, .ireturn, 1, 0, 0, 0, 0, 0) ::
  (225, true, .aload_n 1, 1, 0, 0, 0, 0, 0) ::
  (226, false, .aload_n 0, 1, 0, 0, 0, 0, 0) ::
  (227, false, .iload 4, 2, 0, 0, 0, 0, 0) ::
  cdl_2
def cdl_0 : List mj_E := (0, false, .new 8, 3, 10, 23, 0, 0, 0) ::
  (3, false, .dup, 1, 0, 0, 0, 0, 0) ::
  (4, false, .invokespecial 84, 3, 0, 0, 0, 0, 0) ::
  (7, true, .astore_n 1, 1, 0, 0, 0, 0, 0) ::
  (8, true, .new 85, 3, 27, 58, 0, 0, 0) ::
  (11, false, .dup, 1, 0, 0, 0, 0, 0) ::
  (12, false, .invokespecial 87, 3, 190, 0, 0, 0, 0) ::
  (15, true, .astore_n 2, 1, 0, 0, 0, 0, 0) ::
  (16, true, .iconst 1, 1, 0, 0, 0, jI 1, 0) ::
  (17, false, .newarray .long, 2, 2, 0, 0, 0, 0) ::
  (19, true, .astore_n 3, 1, 0, 0, 0, 0, 0) ::
  (20, true, .iconst 0, 1, 0, 0, 0, jI 0, 0) ::
  (21, false, .istore 4, 2, 0, 0, 0, 0, 0) ::
  (23, true, .iload 4, 2, 0, 0, 0, 0, 0) ::
  (25, false, .aload_n 0, 1, 0, 0, 0, 0, 0) ::
  (26, false, .arraylength, 1, 0, 0, 0, 0, 0) ::
  (27, false, .iconst 4, 1, 0, 0, 0, jI 4, 0) ::
  (28, false, .isub, 1, 0, 0, 0, 0, 0) ::
  (29, false, .if_icmp .gt 1486, 3, 904, 0, 0, 0, 0) ::
  (32, true, .aload_n 0, 1, 0, 0, 0, 0, 0) ::
  (33, false, .iload 4, 2, 0, 0, 0, 0, 0) ::
  (35, false, .iaload, 1, 0, 0, 0, 0, 0) ::
  (36, false, .bipush 31, 2, 0, 0, 0, jI 31, 0) ::
  (38, false, .iand, 1, 0, 0, 0, 0, 0) ::
  (39, false, .tableswitch 1470 0 22 #[105, 161, 186, 254, 322, 378, 446, 502, 558, 626, 682, 750, 806, 886, 942, 998, 1054, 1110, 1166, 1222, 1278, 1334, 1402], 105, 902, 0, 0, 0, 0) ::
  (144, true, .aload_n 1, 1, 0, 0, 0, 0, 0) ::
  (145, false, .aload_n 0, 1, 0, 0, 0, 0, 0) ::
  (146, false, .iload 4, 2, 0, 0, 0, 0, 0) ::
  (148, false, .iconst 1, 1, 0, 0, 0, jI 1, 0) ::
  (149, false, .iadd, 1, 0, 0, 0, 0, 0) ::
  (150, false, .iaload, 1, 0, 0, 0, 0, 0) ::
  (151, false, .aload_n 3, 1, 0, 0, 0, 0, 0) ::
  (152, false, .invokestatic 88, 3, 97, 3, 0, 0, 0) ::
  (155, true, .istore 5, 2, 0, 0, 0, 0, 0) ::
  (157, true, .aload_n 2, 1, 0, 0, 0, 0, 0) ::
  (158, false, .aload_n 0, 1, 0, 0, 0, 0, 0) ::
  (159, false, .iload 4, 2, 0, 0, 0, 0, 0) ::
  (161, false, .iconst 1, 1, 0, 0, 0, jI 1, 0) ::
  (162, false, .iadd, 1, 0, 0, 0, 0, 0) ::
  (163, false, .iaload, 1, 0, 0, 0, 0, 0) ::
  cdl_1
/-- the law; cuts at [7, 8, 15, 16, 19, 20, 23, 32, 144, 155, 157, 167, 169, 180, 197, 200, 225, 242, 244, 260, 262, 273, 290, 293, 310, 312, 328, 330, 341, 358, 361, 372, 374, 384, 386, 397, 414, 417, 434, 436, 452, 454, 465, 482, 485, 496, 498, 508, 510, 521, 538, 541, 552, 554, 564, 566, 577, 594, 597, 614, 616, 632, 634, 645, 662, 665, 676, 678, 688, 690, 701, 718, 721, 738, 740, 756, 758, 769, 786, 789, 800, 802, 812, 814, 825, 842, 845, 868, 870, 892, 894, 905, 922, 925, 936, 938, 948, 950, 961, 978, 981, 992, 994, 1004, 1006, 1017, 1034, 1037, 1048, 1050, 1060, 1062, 1073, 1090, 1093, 1104, 1106, 1116, 1118, 1129, 1146, 1149, 1160, 1162, 1172, 1174, 1185, 1202, 1205, 1216, 1218, 1228, 1230, 1241, 1258, 1261, 1272, 1274, 1284, 1286, 1297, 1314, 1317, 1328, 1330, 1340, 1342, 1353, 1370, 1373, 1390, 1392, 1408, 1410, 1421, 1438, 1441, 1458, 1460, 1476, 1478, 1489, 1506, 1509] -/
def cd_law : List mj_E := cdl_0
def cx_law : mj_X := (4, [], [25, 60, 77, 122, 167, 202, 247, 282, 317, 362, 397, 442, 477, 532, 567, 602, 637, 672, 707, 742, 777, 812, 857])
def mj_ck (C : List mj_E) (ws : List (Nat × Nat × Nat)) : Bool := (C.length == ws.length) && (C.zip ws).all (fun q => mj_okC mM_law cx_law cd_law mj_mh q.1 q.2)
theorem mj_ck_ok {C : List mj_E} {ws : List (Nat × Nat × Nat)} (h : mj_ck C ws = true) : ∀ e ∈ C, ∃ w, mj_okC mM_law cx_law cd_law mj_mh e w = true := by
  simp only [mj_ck, Bool.and_eq_true, beq_iff_eq, List.all_eq_true] at h
  obtain ⟨h1, h2⟩ := h
  intro e he
  obtain ⟨k, hk, rfl⟩ := List.mem_iff_getElem.mp he
  have hk2 : k < ws.length := by omega
  exact ⟨ws[k], h2 (C[k], ws[k]) (List.mem_iff_getElem.mpr ⟨k, by simp; omega, by simp⟩)⟩
theorem chunk_all {α : Type} {P : α → Prop} {L : List α} {n : Nat} (hn : 0 < n) (h : ∀ j, ∀ e ∈ (L.drop (n * j)).take n, P e) : ∀ e ∈ L, P e := by
  intro e he
  obtain ⟨i, hi, rfl⟩ := List.mem_iff_getElem.mp he
  refine h (i / n) _ ?_
  have h1 := Nat.div_add_mod i n
  have h2 := Nat.mod_lt i hn
  refine List.mem_iff_getElem?.mpr ⟨i % n, ?_⟩
  rw [List.getElem?_take, if_pos h2, List.getElem?_drop, h1]
  exact List.getElem?_eq_getElem hi
theorem tl_0 : mj_ck ((cd_law.drop 0).take 40) [(1030, 1031, 1001), (0, 0, 0), (1032, 0, 0), (0, 0, 0), (6199, 6200, 1026), (0, 0, 0), (6201, 0, 0), (0, 0, 0), (0, 0, 0), (2237, 0, 0), (0, 0, 0), (0, 0, 0), (0, 0, 0), (0, 0, 0), (0, 0, 0), (0, 0, 0), (0, 0, 0), (0, 0, 0), (0, 0, 0), (0, 0, 0), (0, 0, 0), (0, 0, 0), (0, 0, 0), (0, 0, 0), (0, 0, 0), (0, 0, 0), (0, 0, 0), (0, 0, 0), (0, 0, 0), (0, 0, 0), (0, 0, 0), (0, 0, 0), (5038, 0, 0), (0, 0, 0), (0, 0, 0), (0, 0, 0), (0, 0, 0), (0, 0, 0), (0, 0, 0), (0, 0, 0)] = true := by decide +kernel
theorem tl_1 : mj_ck ((cd_law.drop 40).take 40) [(8038, 0, 0), (0, 0, 0), (0, 0, 0), (8034, 0, 0), (0, 0, 0), (0, 0, 0), (0, 0, 0), (0, 0, 0), (0, 0, 0), (0, 0, 0), (0, 0, 0), (0, 0, 0), (0, 0, 0), (0, 0, 0), (0, 0, 0), (0, 0, 0), (0, 0, 0), (0, 0, 0), (0, 0, 0), (0, 0, 0), (0, 0, 0), (0, 0, 0), (0, 0, 0), (0, 0, 0), (0, 0, 0), (0, 0, 0), (5033, 0, 0), (0, 0, 0), (0, 0, 0), (0, 0, 0), (0, 0, 0), (0, 0, 0), (0, 0, 0), (8212, 0, 0), (0, 0, 0), (0, 0, 0), (0, 0, 0), (0, 0, 0), (0, 0, 0), (0, 0, 0)] = true := by decide +kernel
theorem tl_2 : mj_ck ((cd_law.drop 80).take 40) [(0, 0, 0), (0, 0, 0), (0, 0, 0), (0, 0, 0), (0, 0, 0), (0, 0, 0), (0, 0, 0), (0, 0, 0), (0, 0, 0), (5069, 0, 0), (0, 0, 0), (0, 0, 0), (0, 0, 0), (0, 0, 0), (0, 0, 0), (0, 0, 0), (0, 0, 0), (0, 0, 0), (0, 0, 0), (0, 0, 0), (0, 0, 0), (0, 0, 0), (8216, 0, 0), (0, 0, 0), (0, 0, 0), (8034, 0, 0), (0, 0, 0), (0, 0, 0), (0, 0, 0), (0, 0, 0), (0, 0, 0), (0, 0, 0), (0, 0, 0), (0, 0, 0), (0, 0, 0), (0, 0, 0), (0, 0, 0), (0, 0, 0), (0, 0, 0), (0, 0, 0)] = true := by decide +kernel
theorem tl_3 : mj_ck ((cd_law.drop 120).take 40) [(0, 0, 0), (0, 0, 0), (0, 0, 0), (0, 0, 0), (0, 0, 0), (0, 0, 0), (0, 0, 0), (0, 0, 0), (0, 0, 0), (0, 0, 0), (0, 0, 0), (0, 0, 0), (0, 0, 0), (0, 0, 0), (5103, 0, 0), (0, 0, 0), (0, 0, 0), (0, 0, 0), (0, 0, 0), (0, 0, 0), (0, 0, 0), (0, 0, 0), (0, 0, 0), (0, 0, 0), (0, 0, 0), (0, 0, 0), (0, 0, 0), (8220, 0, 0), (0, 0, 0), (0, 0, 0), (8034, 0, 0), (0, 0, 0), (0, 0, 0), (0, 0, 0), (0, 0, 0), (0, 0, 0), (0, 0, 0), (0, 0, 0), (0, 0, 0), (0, 0, 0)] = true := by decide +kernel
theorem tl_4 : mj_ck ((cd_law.drop 160).take 40) [(0, 0, 0), (0, 0, 0), (0, 0, 0), (0, 0, 0), (0, 0, 0), (0, 0, 0), (0, 0, 0), (0, 0, 0), (0, 0, 0), (0, 0, 0), (0, 0, 0), (0, 0, 0), (0, 0, 0), (0, 0, 0), (5111, 0, 0), (0, 0, 0), (0, 0, 0), (0, 0, 0), (0, 0, 0), (0, 0, 0), (0, 0, 0), (0, 0, 0), (8224, 0, 0), (0, 0, 0), (0, 0, 0), (8034, 0, 0), (0, 0, 0), (0, 0, 0), (0, 0, 0), (0, 0, 0), (0, 0, 0), (0, 0, 0), (0, 0, 0), (0, 0, 0), (0, 0, 0), (0, 0, 0), (0, 0, 0), (0, 0, 0), (0, 0, 0), (0, 0, 0)] = true := by decide +kernel
theorem tl_5 : mj_ck ((cd_law.drop 200).take 40) [(0, 0, 0), (0, 0, 0), (0, 0, 0), (0, 0, 0), (0, 0, 0), (0, 0, 0), (0, 0, 0), (0, 0, 0), (0, 0, 0), (0, 0, 0), (0, 0, 0), (0, 0, 0), (0, 0, 0), (0, 0, 0), (5119, 0, 0), (0, 0, 0), (0, 0, 0), (0, 0, 0), (0, 0, 0), (0, 0, 0), (0, 0, 0), (0, 0, 0), (0, 0, 0), (0, 0, 0), (0, 0, 0), (0, 0, 0), (0, 0, 0), (8232, 0, 0), (0, 0, 0), (0, 0, 0), (8034, 0, 0), (0, 0, 0), (0, 0, 0), (0, 0, 0), (0, 0, 0), (0, 0, 0), (0, 0, 0), (0, 0, 0), (0, 0, 0), (0, 0, 0)] = true := by decide +kernel
theorem tl_6 : mj_ck ((cd_law.drop 240).take 40) [(0, 0, 0), (0, 0, 0), (0, 0, 0), (0, 0, 0), (0, 0, 0), (0, 0, 0), (0, 0, 0), (0, 0, 0), (0, 0, 0), (0, 0, 0), (0, 0, 0), (0, 0, 0), (0, 0, 0), (0, 0, 0), (5127, 0, 0), (0, 0, 0), (0, 0, 0), (0, 0, 0), (0, 0, 0), (0, 0, 0), (0, 0, 0), (0, 0, 0), (8236, 0, 0), (0, 0, 0), (0, 0, 0), (8034, 0, 0), (0, 0, 0), (0, 0, 0), (0, 0, 0), (0, 0, 0), (0, 0, 0), (0, 0, 0), (0, 0, 0), (0, 0, 0), (0, 0, 0), (0, 0, 0), (0, 0, 0), (0, 0, 0), (0, 0, 0), (0, 0, 0)] = true := by decide +kernel
theorem tl_7 : mj_ck ((cd_law.drop 280).take 40) [(0, 0, 0), (0, 0, 0), (0, 0, 0), (0, 0, 0), (0, 0, 0), (0, 0, 0), (0, 0, 0), (0, 0, 0), (0, 0, 0), (5134, 0, 0), (0, 0, 0), (0, 0, 0), (0, 0, 0), (0, 0, 0), (0, 0, 0), (0, 0, 0), (0, 0, 0), (9000, 0, 0), (0, 0, 0), (0, 0, 0), (8034, 0, 0), (0, 0, 0), (0, 0, 0), (0, 0, 0), (0, 0, 0), (0, 0, 0), (0, 0, 0), (0, 0, 0), (0, 0, 0), (0, 0, 0), (0, 0, 0), (0, 0, 0), (0, 0, 0), (0, 0, 0), (0, 0, 0), (0, 0, 0), (0, 0, 0), (0, 0, 0), (0, 0, 0), (0, 0, 0)] = true := by decide +kernel
theorem tl_8 : mj_ck ((cd_law.drop 320).take 40) [(0, 0, 0), (0, 0, 0), (0, 0, 0), (0, 0, 0), (0, 0, 0), (0, 0, 0), (0, 0, 0), (0, 0, 0), (0, 0, 0), (5141, 0, 0), (0, 0, 0), (0, 0, 0), (0, 0, 0), (0, 0, 0), (0, 0, 0), (0, 0, 0), (0, 0, 0), (0, 0, 0), (0, 0, 0), (0, 0, 0), (0, 0, 0), (0, 0, 0), (9004, 0, 0), (0, 0, 0), (0, 0, 0), (8034, 0, 0), (0, 0, 0), (0, 0, 0), (0, 0, 0), (0, 0, 0), (0, 0, 0), (0, 0, 0), (0, 0, 0), (0, 0, 0), (0, 0, 0), (0, 0, 0), (0, 0, 0), (0, 0, 0), (0, 0, 0), (0, 0, 0)] = true := by decide +kernel
theorem tl_9 : mj_ck ((cd_law.drop 360).take 40) [(0, 0, 0), (0, 0, 0), (0, 0, 0), (0, 0, 0), (0, 0, 0), (0, 0, 0), (0, 0, 0), (0, 0, 0), (0, 0, 0), (5148, 0, 0), (0, 0, 0), (0, 0, 0), (0, 0, 0), (0, 0, 0), (0, 0, 0), (0, 0, 0), (0, 0, 0), (8200, 0, 0), (0, 0, 0), (0, 0, 0), (8034, 0, 0), (0, 0, 0), (0, 0, 0), (0, 0, 0), (0, 0, 0), (0, 0, 0), (0, 0, 0), (0, 0, 0), (0, 0, 0), (0, 0, 0), (0, 0, 0), (0, 0, 0), (0, 0, 0), (0, 0, 0), (0, 0, 0), (0, 0, 0), (0, 0, 0), (0, 0, 0), (0, 0, 0), (0, 0, 0)] = true := by decide +kernel
theorem tl_10 : mj_ck ((cd_law.drop 400).take 40) [(0, 0, 0), (0, 0, 0), (0, 0, 0), (0, 0, 0), (0, 0, 0), (0, 0, 0), (0, 0, 0), (0, 0, 0), (0, 0, 0), (5155, 0, 0), (0, 0, 0), (0, 0, 0), (0, 0, 0), (0, 0, 0), (0, 0, 0), (0, 0, 0), (0, 0, 0), (0, 0, 0), (0, 0, 0), (0, 0, 0), (0, 0, 0), (0, 0, 0), (8204, 0, 0), (0, 0, 0), (0, 0, 0), (8034, 0, 0), (0, 0, 0), (0, 0, 0), (0, 0, 0), (0, 0, 0), (0, 0, 0), (0, 0, 0), (0, 0, 0), (0, 0, 0), (0, 0, 0), (0, 0, 0), (0, 0, 0), (0, 0, 0), (0, 0, 0), (0, 0, 0)] = true := by decide +kernel
theorem tl_11 : mj_ck ((cd_law.drop 440).take 40) [(0, 0, 0), (0, 0, 0), (0, 0, 0), (0, 0, 0), (0, 0, 0), (0, 0, 0), (0, 0, 0), (0, 0, 0), (0, 0, 0), (5167, 0, 0), (0, 0, 0), (0, 0, 0), (0, 0, 0), (0, 0, 0), (0, 0, 0), (0, 0, 0), (0, 0, 0), (8185, 0, 0), (0, 0, 0), (0, 0, 0), (8034, 0, 0), (0, 0, 0), (0, 0, 0), (0, 0, 0), (0, 0, 0), (0, 0, 0), (0, 0, 0), (0, 0, 0), (0, 0, 0), (0, 0, 0), (0, 0, 0), (0, 0, 0), (0, 0, 0), (0, 0, 0), (0, 0, 0), (0, 0, 0), (0, 0, 0), (0, 0, 0), (0, 0, 0), (0, 0, 0)] = true := by decide +kernel
theorem tl_12 : mj_ck ((cd_law.drop 480).take 40) [(0, 0, 0), (0, 0, 0), (0, 0, 0), (0, 0, 0), (0, 0, 0), (0, 0, 0), (0, 0, 0), (0, 0, 0), (0, 0, 0), (0, 0, 0), (0, 0, 0), (0, 0, 0), (0, 0, 0), (0, 0, 0), (5191, 0, 0), (0, 0, 0), (0, 0, 0), (0, 0, 0), (0, 0, 0), (0, 0, 0), (0, 0, 0), (0, 0, 0), (0, 0, 0), (0, 0, 0), (0, 0, 0), (0, 0, 0), (0, 0, 0), (0, 0, 0), (0, 0, 0), (0, 0, 0), (0, 0, 0), (0, 0, 0), (8047, 0, 0), (0, 0, 0), (0, 0, 0), (8034, 0, 0), (0, 0, 0), (0, 0, 0), (0, 0, 0), (0, 0, 0)] = true := by decide +kernel
theorem tl_13 : mj_ck ((cd_law.drop 520).take 40) [(0, 0, 0), (0, 0, 0), (0, 0, 0), (0, 0, 0), (0, 0, 0), (0, 0, 0), (0, 0, 0), (0, 0, 0), (0, 0, 0), (0, 0, 0), (0, 0, 0), (0, 0, 0), (0, 0, 0), (0, 0, 0), (0, 0, 0), (0, 0, 0), (0, 0, 0), (0, 0, 0), (0, 0, 0), (5209, 0, 0), (0, 0, 0), (0, 0, 0), (0, 0, 0), (0, 0, 0), (0, 0, 0), (0, 0, 0), (0, 0, 0), (9008, 0, 0), (0, 0, 0), (0, 0, 0), (8034, 0, 0), (0, 0, 0), (0, 0, 0), (0, 0, 0), (0, 0, 0), (0, 0, 0), (0, 0, 0), (0, 0, 0), (0, 0, 0), (0, 0, 0)] = true := by decide +kernel
theorem tl_14 : mj_ck ((cd_law.drop 560).take 40) [(0, 0, 0), (0, 0, 0), (0, 0, 0), (0, 0, 0), (0, 0, 0), (0, 0, 0), (0, 0, 0), (0, 0, 0), (0, 0, 0), (0, 0, 0), (0, 0, 0), (0, 0, 0), (0, 0, 0), (0, 0, 0), (5216, 0, 0), (0, 0, 0), (0, 0, 0), (0, 0, 0), (0, 0, 0), (0, 0, 0), (0, 0, 0), (0, 0, 0), (8053, 0, 0), (0, 0, 0), (0, 0, 0), (8034, 0, 0), (0, 0, 0), (0, 0, 0), (0, 0, 0), (0, 0, 0), (0, 0, 0), (0, 0, 0), (0, 0, 0), (0, 0, 0), (0, 0, 0), (0, 0, 0), (0, 0, 0), (0, 0, 0), (0, 0, 0), (0, 0, 0)] = true := by decide +kernel
theorem tl_15 : mj_ck ((cd_law.drop 600).take 40) [(0, 0, 0), (0, 0, 0), (0, 0, 0), (0, 0, 0), (0, 0, 0), (0, 0, 0), (0, 0, 0), (0, 0, 0), (0, 0, 0), (6126, 0, 0), (0, 0, 0), (0, 0, 0), (0, 0, 0), (0, 0, 0), (0, 0, 0), (0, 0, 0), (0, 0, 0), (9012, 0, 0), (0, 0, 0), (0, 0, 0), (8034, 0, 0), (0, 0, 0), (0, 0, 0), (0, 0, 0), (0, 0, 0), (0, 0, 0), (0, 0, 0), (0, 0, 0), (0, 0, 0), (0, 0, 0), (0, 0, 0), (0, 0, 0), (0, 0, 0), (0, 0, 0), (0, 0, 0), (0, 0, 0), (0, 0, 0), (0, 0, 0), (0, 0, 0), (0, 0, 0)] = true := by decide +kernel
theorem tl_16 : mj_ck ((cd_law.drop 640).take 40) [(0, 0, 0), (0, 0, 0), (0, 0, 0), (0, 0, 0), (6133, 0, 0), (0, 0, 0), (0, 0, 0), (0, 0, 0), (0, 0, 0), (0, 0, 0), (0, 0, 0), (0, 0, 0), (9020, 0, 0), (0, 0, 0), (0, 0, 0), (8034, 0, 0), (0, 0, 0), (0, 0, 0), (0, 0, 0), (0, 0, 0), (0, 0, 0), (0, 0, 0), (0, 0, 0), (0, 0, 0), (0, 0, 0), (0, 0, 0), (0, 0, 0), (0, 0, 0), (0, 0, 0), (0, 0, 0), (0, 0, 0), (0, 0, 0), (0, 0, 0), (0, 0, 0), (0, 0, 0), (0, 0, 0), (0, 0, 0), (0, 0, 0), (0, 0, 0), (6140, 0, 0)] = true := by decide +kernel
theorem tl_17 : mj_ck ((cd_law.drop 680).take 40) [(0, 0, 0), (0, 0, 0), (0, 0, 0), (0, 0, 0), (0, 0, 0), (0, 0, 0), (0, 0, 0), (8181, 0, 0), (0, 0, 0), (0, 0, 0), (8034, 0, 0), (0, 0, 0), (0, 0, 0), (0, 0, 0), (0, 0, 0), (0, 0, 0), (0, 0, 0), (0, 0, 0), (0, 0, 0), (0, 0, 0), (0, 0, 0), (0, 0, 0), (0, 0, 0), (0, 0, 0), (0, 0, 0), (0, 0, 0), (0, 0, 0), (0, 0, 0), (0, 0, 0), (0, 0, 0), (0, 0, 0), (0, 0, 0), (0, 0, 0), (0, 0, 0), (6147, 0, 0), (0, 0, 0), (0, 0, 0), (0, 0, 0), (0, 0, 0), (0, 0, 0)] = true := by decide +kernel
theorem tl_18 : mj_ck ((cd_law.drop 720).take 40) [(0, 0, 0), (0, 0, 0), (9024, 0, 0), (0, 0, 0), (0, 0, 0), (8034, 0, 0), (0, 0, 0), (0, 0, 0), (0, 0, 0), (0, 0, 0), (0, 0, 0), (0, 0, 0), (0, 0, 0), (0, 0, 0), (0, 0, 0), (0, 0, 0), (0, 0, 0), (0, 0, 0), (0, 0, 0), (0, 0, 0), (0, 0, 0), (0, 0, 0), (0, 0, 0), (0, 0, 0), (0, 0, 0), (0, 0, 0), (0, 0, 0), (0, 0, 0), (0, 0, 0), (6154, 0, 0), (0, 0, 0), (0, 0, 0), (0, 0, 0), (0, 0, 0), (0, 0, 0), (0, 0, 0), (0, 0, 0), (9028, 0, 0), (0, 0, 0), (0, 0, 0)] = true := by decide +kernel
theorem tl_19 : mj_ck ((cd_law.drop 760).take 40) [(8034, 0, 0), (0, 0, 0), (0, 0, 0), (0, 0, 0), (0, 0, 0), (0, 0, 0), (0, 0, 0), (0, 0, 0), (0, 0, 0), (0, 0, 0), (0, 0, 0), (0, 0, 0), (0, 0, 0), (0, 0, 0), (0, 0, 0), (0, 0, 0), (0, 0, 0), (0, 0, 0), (0, 0, 0), (0, 0, 0), (0, 0, 0), (0, 0, 0), (0, 0, 0), (0, 0, 0), (6168, 0, 0), (0, 0, 0), (0, 0, 0), (0, 0, 0), (0, 0, 0), (0, 0, 0), (0, 0, 0), (0, 0, 0), (9040, 0, 0), (0, 0, 0), (0, 0, 0), (8034, 0, 0), (0, 0, 0), (0, 0, 0), (0, 0, 0), (0, 0, 0)] = true := by decide +kernel
theorem tl_20 : mj_ck ((cd_law.drop 800).take 40) [(0, 0, 0), (0, 0, 0), (0, 0, 0), (0, 0, 0), (0, 0, 0), (0, 0, 0), (0, 0, 0), (0, 0, 0), (0, 0, 0), (0, 0, 0), (0, 0, 0), (0, 0, 0), (0, 0, 0), (0, 0, 0), (0, 0, 0), (0, 0, 0), (0, 0, 0), (0, 0, 0), (0, 0, 0), (0, 0, 0), (0, 0, 0), (0, 0, 0), (0, 0, 0), (0, 0, 0), (6180, 0, 0), (0, 0, 0), (0, 0, 0), (0, 0, 0), (0, 0, 0), (0, 0, 0), (0, 0, 0), (0, 0, 0), (0, 0, 0), (0, 0, 0), (0, 0, 0), (0, 0, 0), (0, 0, 0), (9052, 0, 0), (0, 0, 0), (0, 0, 0)] = true := by decide +kernel
theorem tl_21 : mj_ck ((cd_law.drop 840).take 40) [(8034, 0, 0), (0, 0, 0), (0, 0, 0), (0, 0, 0), (0, 0, 0), (0, 0, 0), (0, 0, 0), (0, 0, 0), (0, 0, 0), (0, 0, 0), (0, 0, 0), (0, 0, 0), (0, 0, 0), (0, 0, 0), (0, 0, 0), (0, 0, 0), (0, 0, 0), (0, 0, 0), (0, 0, 0), (0, 0, 0), (0, 0, 0), (0, 0, 0), (0, 0, 0), (0, 0, 0), (0, 0, 0), (0, 0, 0), (0, 0, 0), (0, 0, 0), (0, 0, 0), (6187, 0, 0), (0, 0, 0), (0, 0, 0), (0, 0, 0), (0, 0, 0), (0, 0, 0), (0, 0, 0), (0, 0, 0), (0, 0, 0), (0, 0, 0), (0, 0, 0)] = true := by decide +kernel
theorem tl_22 : mj_ck ((cd_law.drop 880).take 40) [(0, 0, 0), (0, 0, 0), (9057, 0, 0), (0, 0, 0), (0, 0, 0), (8034, 0, 0), (0, 0, 0), (0, 0, 0), (0, 0, 0), (0, 0, 0), (0, 0, 0), (0, 0, 0), (0, 0, 0), (0, 0, 0), (0, 0, 0), (0, 0, 0), (0, 0, 0), (0, 0, 0), (0, 0, 0), (0, 0, 0), (0, 0, 0), (0, 0, 0), (0, 0, 0), (0, 0, 0), (0, 0, 0), (0, 0, 0)] = true := by decide +kernel
theorem law_hallC : ∀ e ∈ cd_law, ∃ w, mj_okC mM_law cx_law cd_law mj_mh e w = true := by
  refine chunk_all (n := 40) (by decide) (fun j => ?_)
  match j with
  | 0 => exact mj_ck_ok tl_0
  | 1 => exact mj_ck_ok tl_1
  | 2 => exact mj_ck_ok tl_2
  | 3 => exact mj_ck_ok tl_3
  | 4 => exact mj_ck_ok tl_4
  | 5 => exact mj_ck_ok tl_5
  | 6 => exact mj_ck_ok tl_6
  | 7 => exact mj_ck_ok tl_7
  | 8 => exact mj_ck_ok tl_8
  | 9 => exact mj_ck_ok tl_9
  | 10 => exact mj_ck_ok tl_10
  | 11 => exact mj_ck_ok tl_11
  | 12 => exact mj_ck_ok tl_12
  | 13 => exact mj_ck_ok tl_13
  | 14 => exact mj_ck_ok tl_14
  | 15 => exact mj_ck_ok tl_15
  | 16 => exact mj_ck_ok tl_16
  | 17 => exact mj_ck_ok tl_17
  | 18 => exact mj_ck_ok tl_18
  | 19 => exact mj_ck_ok tl_19
  | 20 => exact mj_ck_ok tl_20
  | 21 => exact mj_ck_ok tl_21
  | 22 => exact mj_ck_ok tl_22
  | j + 23 =>
    intro e he
    have hl : cd_law.length = 906 := by decide +kernel
    rw [List.drop_eq_nil_of_le (by omega)] at he
    cases he
theorem law_adj : mj_adj cd_law = true := by decide +kernel
theorem law_rt : mj_rtB cx_law mM_law = true := by decide +kernel
theorem law_pre : mj_pre (mM_b mM_law) cd_law (mM_b mM_law).data.toList = true := by decide +kernel
theorem law_first : ∀ (e : mj_E) (r : List mj_E), cd_law = e :: r → e.1 = 0 := by
  intro e r z
  have h1 : cd_law.head? = some e := by
    rw [z]
    rfl
  have h2 : cd_law.head?.map (fun e => e.1) = some 0 := by decide +kernel
  rw [h1] at h2
  exact Option.some.inj h2
theorem law_hall : ∀ e ∈ cd_law, ∃ w, mj_okB mM_law cx_law cd_law mj_mh e w = true := by
  intro e he
  obtain ⟨w, hw⟩ := law_hallC e he
  exact ⟨w, mj_okB_c (mj_pre_ok cd_law 0 (mM_b mM_law).data.toList law_adj law_first rfl law_pre e he) hw⟩
theorem jI_len (n : Nat) : Int32.ofNat n = jI (n : Int) := by
  first | exact Int32.ofInt_eq_ofNat.symm | rfl | (show Int32.ofNat n = Int32.ofInt (n : Int); simp)
/-- the script -/
def scr (xs : Nat → Int32) (Ln : Nat) (h : mj_H) : Prop := hK h 0 = 7 ∧ hN h 0 = Ln ∧ ∀ j, hI h 0 j = xs j
/-- what holds between the operations -/
def lawI (I : mj_H → Prop) (Ln : Nat) (xs : Nat → Int32) : Prop := ∀ h, I h → scr xs Ln h ∧ hK h 1 = 10 ∧ hK h 1412 = 27 ∧ hK h 1441 = 2 ∧ hN h 1441 = 1
/-- one operation: what the wrapper answers is what the model answers -/
def op1 (G : mj_G) (I : mj_H → Prop) (Ln : Nat) (xs : Nat → Int32) (jw jm : Nat) (av : List Value) (h : mj_H) : Prop := ∃ Pw, mj_Ct G (mj_mt jw) 1 6 (.ref 1 :: (av ++ [.ref 1441])) h Pw ∧ ∀ o h1, Pw o h1 → ∃ k : Int, (0 ≤ k ∧ k ≤ 2) ∧ o = .returned (some (.int (jI k))) ∧ scr xs Ln h1 ∧ hK h1 1412 = 27 ∧ ∃ Pm, mj_Ct G (mj_mt jm) 0 0 (.ref 1412 :: av) h1 Pm ∧ ∀ o2 h2, Pm o2 h2 → ∃ b, o2 = .returned (some (.int b)) ∧ I h2 ∧ hI h2 1412 0 = jI k ∧ (k = 0 → hJ h2 1441 0 = b.toInt64)
def opC (G : mj_G) (I : mj_H → Prop) (Ln : Nat) (xs : Nat → Int32) (p : Int32) (h : mj_H) : Prop := ∃ b, mj_Ct G (mj_mt 96) 0 0 [.ref 1, .int p] h (jR (.int b) h) ∧ ∃ Pm, mj_Ct G (mj_mt 265) 0 0 [.ref 1412, .int p] h Pm ∧ ∀ o2 h2, Pm o2 h2 → o2 = .returned (some (.int b)) ∧ I h2
def lawOps (G : mj_G) (I : mj_H → Prop) (Ln : Nat) (xs : Nat → Int32) : Prop := ∀ h, I h → ∀ p0 p1 p2 : Int32, opC G I Ln xs p0 h ∧ op1 G I Ln xs 97 224 [.int p0] h ∧ op1 G I Ln xs 102 266 [.int p0, .int p1] h ∧ op1 G I Ln xs 108 267 [.int p0, .int p1] h ∧ op1 G I Ln xs 110 268 [.int p0] h ∧ op1 G I Ln xs 112 270 [.int p0, .int p1] h ∧ op1 G I Ln xs 114 271 [.int p0] h ∧ op1 G I Ln xs 116 272 [.int p0] h ∧ op1 G I Ln xs 118 273 [.int p0, .int p1] h ∧ op1 G I Ln xs 120 262 [.int p0] h ∧ op1 G I Ln xs 122 263 [.int p0, .int p1] h ∧ op1 G I Ln xs 125 259 [.int p0] h ∧ op1 G I Ln xs 130 226 [.int p0, .int p1, .int p2] h ∧ op1 G I Ln xs 134 274 [.int p0] h ∧ op1 G I Ln xs 136 227 [.int p0] h ∧ op1 G I Ln xs 170 275 [.int p0] h ∧ op1 G I Ln xs 172 277 [.int p0] h ∧ op1 G I Ln xs 174 258 [.int p0] h ∧ op1 G I Ln xs 176 278 [.int p0] h ∧ op1 G I Ln xs 178 279 [.int p0] h ∧ op1 G I Ln xs 182 282 [.int p0] h ∧ op1 G I Ln xs 185 285 [.int p0, .int p1] h ∧ op1 G I Ln xs 187 286 [.int p0, .int p1] h
abbrev lL (i : Int32) (x5 x6 : Option Value) : mj_Ls := [some (.ref 0), some (.ref 1), some (.ref 1412), some (.ref 1441), some (.int i), x5, x6]
theorem sc_ix {t j : Nat} : jI ((4 * t : Nat) : Int) + jI (j : Int) = jI ((4 * t + j : Nat) : Int) := by
  rw [jI_add]
  congr 1
theorem sc_vn {xs : Nat → Int32} {Ln t : Nat} (hLn : Ln ≤ 2048) (hlt : 4 * t + 4 ≤ Ln) {h3 : mj_H} (j : Nat) (sc : scr xs Ln h3) (hj : j < 4) : vp_in (jI ((4 * t : Nat) : Int) + jI (j : Int)) (hN h3 0) := by
  rw [sc_ix, sc.2.1]
  exact jI_in (by omega) (by omega) (by omega)
theorem sc_rd {xs : Nat → Int32} {Ln t : Nat} (hLn : Ln ≤ 2048) (hlt : 4 * t + 4 ≤ Ln) {h3 : mj_H} (j : Nat) (sc : scr xs Ln h3) (hj : j < 4) : hI h3 0 (jI ((4 * t : Nat) : Int) + jI (j : Int)).toNatClampNeg = xs (4 * t + j) := by
  rw [sc_ix, jI_nat (by omega) (by omega), Int.toNat_natCast]
  exact sc.2.2 _
/-- on to the next operation -/
def lawN (I : mj_H → Prop) (Run : mj_K) (p t : Nat) : Prop := ∀ (h3 : mj_H) (b1 b2 : Nat) (x5 x6 : Option Value), I h3 → p ≤ b1 → 6 * p ≤ b2 → Run 1509 (lL (jI ((4 * t : Nat) : Int)) x5 x6) [] h3 (b1, b2)
